set_option maxRecDepth 100000
theorem dX0_grant_0 : decode cX0_grant 0 = .ok (.aload_n 0, 1) := by decide +kernel
theorem dX0_grant_1 : decode cX0_grant 1 = .ok (.iload_n 1, 1) := by decide +kernel
theorem dX0_grant_2 : decode cX0_grant 2 = .ok (.iload_n 2, 1) := by decide +kernel
theorem dX0_grant_3 : decode cX0_grant 3 = .ok (.iload_n 3, 1) := by decide +kernel
theorem dX0_grant_4 : decode cX0_grant 4 = .ok (.invokevirtual 7, 3) := by decide +kernel
theorem dX0_grant_7 : decode cX0_grant 7 = .ok (.goto 11, 3) := by decide +kernel
theorem dX0_grant_10 : decode cX0_grant 10 = .ok (.astore 4, 2) := by decide +kernel
theorem dX0_grant_12 : decode cX0_grant 12 = .ok (.iconst 1, 1) := by decide +kernel
theorem dX0_grant_13 : decode cX0_grant 13 = .ok (.ireturn, 1) := by decide +kernel
theorem dX0_grant_14 : decode cX0_grant 14 = .ok (.astore 4, 2) := by decide +kernel
theorem dX0_grant_16 : decode cX0_grant 16 = .ok (.iconst 2, 1) := by decide +kernel
theorem dX0_grant_17 : decode cX0_grant 17 = .ok (.ireturn, 1) := by decide +kernel
theorem dX0_grant_18 : decode cX0_grant 18 = .ok (.iconst 0, 1) := by decide +kernel
theorem dX0_grant_19 : decode cX0_grant 19 = .ok (.ireturn, 1) := by decide +kernel
theorem dX0_join_0 : decode cX0_join 0 = .ok (.aload_n 0, 1) := by decide +kernel
theorem dX0_join_1 : decode cX0_join 1 = .ok (.invokevirtual 17, 3) := by decide +kernel
theorem dX0_join_4 : decode cX0_join 4 = .ok (.goto 6, 3) := by decide +kernel
theorem dX0_join_7 : decode cX0_join 7 = .ok (.astore_n 1, 1) := by decide +kernel
theorem dX0_join_8 : decode cX0_join 8 = .ok (.iconst 1, 1) := by decide +kernel
theorem dX0_join_9 : decode cX0_join 9 = .ok (.ireturn, 1) := by decide +kernel
theorem dX0_join_10 : decode cX0_join 10 = .ok (.iconst 0, 1) := by decide +kernel
theorem dX0_join_11 : decode cX0_join 11 = .ok (.ireturn, 1) := by decide +kernel
theorem dX0_feed_0 : decode cX0_feed 0 = .ok (.aload 4, 2) := by decide +kernel
theorem dX0_feed_2 : decode cX0_feed 2 = .ok (.iconst 0, 1) := by decide +kernel
theorem dX0_feed_3 : decode cX0_feed 3 = .ok (.aload_n 0, 1) := by decide +kernel
theorem dX0_feed_4 : decode cX0_feed 4 = .ok (.iload_n 1, 1) := by decide +kernel
theorem dX0_feed_5 : decode cX0_feed 5 = .ok (.lload_n 2, 1) := by decide +kernel
theorem dX0_feed_6 : decode cX0_feed 6 = .ok (.invokevirtual 20, 3) := by decide +kernel
theorem dX0_feed_9 : decode cX0_feed 9 = .ok (.i2l, 1) := by decide +kernel
theorem dX0_feed_10 : decode cX0_feed 10 = .ok (.lastore, 1) := by decide +kernel
theorem dX0_feed_11 : decode cX0_feed 11 = .ok (.goto 11, 3) := by decide +kernel
theorem dX0_feed_14 : decode cX0_feed 14 = .ok (.astore 5, 2) := by decide +kernel
theorem dX0_feed_16 : decode cX0_feed 16 = .ok (.iconst 1, 1) := by decide +kernel
theorem dX0_feed_17 : decode cX0_feed 17 = .ok (.ireturn, 1) := by decide +kernel
theorem dX0_feed_18 : decode cX0_feed 18 = .ok (.astore 5, 2) := by decide +kernel
theorem dX0_feed_20 : decode cX0_feed 20 = .ok (.iconst 2, 1) := by decide +kernel
theorem dX0_feed_21 : decode cX0_feed 21 = .ok (.ireturn, 1) := by decide +kernel
theorem dX0_feed_22 : decode cX0_feed 22 = .ok (.iconst 0, 1) := by decide +kernel
theorem dX0_feed_23 : decode cX0_feed 23 = .ok (.ireturn, 1) := by decide +kernel
theorem dX0_open_0 : decode cX0_open 0 = .ok (.aload_n 3, 1) := by decide +kernel
theorem dX0_open_1 : decode cX0_open 1 = .ok (.iconst 0, 1) := by decide +kernel
theorem dX0_open_2 : decode cX0_open 2 = .ok (.aload_n 0, 1) := by decide +kernel
theorem dX0_open_3 : decode cX0_open 3 = .ok (.iload_n 1, 1) := by decide +kernel
theorem dX0_open_4 : decode cX0_open 4 = .ok (.iload_n 2, 1) := by decide +kernel
theorem dX0_open_5 : decode cX0_open 5 = .ok (.invokevirtual 24, 3) := by decide +kernel
theorem dX0_open_8 : decode cX0_open 8 = .ok (.i2l, 1) := by decide +kernel
theorem dX0_open_9 : decode cX0_open 9 = .ok (.lastore, 1) := by decide +kernel
theorem dX0_open_10 : decode cX0_open 10 = .ok (.goto 11, 3) := by decide +kernel
theorem dX0_open_13 : decode cX0_open 13 = .ok (.astore 4, 2) := by decide +kernel
theorem dX0_open_15 : decode cX0_open 15 = .ok (.iconst 1, 1) := by decide +kernel
theorem dX0_open_16 : decode cX0_open 16 = .ok (.ireturn, 1) := by decide +kernel
theorem dX0_open_17 : decode cX0_open 17 = .ok (.astore 4, 2) := by decide +kernel
theorem dX0_open_19 : decode cX0_open 19 = .ok (.iconst 2, 1) := by decide +kernel
theorem dX0_open_20 : decode cX0_open 20 = .ok (.ireturn, 1) := by decide +kernel
theorem dX0_open_21 : decode cX0_open 21 = .ok (.iconst 0, 1) := by decide +kernel
theorem dX0_open_22 : decode cX0_open 22 = .ok (.ireturn, 1) := by decide +kernel
theorem dX0_write_0 : decode cX0_write 0 = .ok (.aload_n 3, 1) := by decide +kernel
theorem dX0_write_1 : decode cX0_write 1 = .ok (.iconst 0, 1) := by decide +kernel
theorem dX0_write_2 : decode cX0_write 2 = .ok (.aload_n 0, 1) := by decide +kernel
theorem dX0_write_3 : decode cX0_write 3 = .ok (.iload_n 1, 1) := by decide +kernel
theorem dX0_write_4 : decode cX0_write 4 = .ok (.iload_n 2, 1) := by decide +kernel
theorem dX0_write_5 : decode cX0_write 5 = .ok (.invokevirtual 28, 3) := by decide +kernel
theorem dX0_write_8 : decode cX0_write 8 = .ok (.i2l, 1) := by decide +kernel
theorem dX0_write_9 : decode cX0_write 9 = .ok (.lastore, 1) := by decide +kernel
theorem dX0_write_10 : decode cX0_write 10 = .ok (.goto 7, 3) := by decide +kernel
theorem dX0_write_13 : decode cX0_write 13 = .ok (.astore 4, 2) := by decide +kernel
theorem dX0_write_15 : decode cX0_write 15 = .ok (.iconst 1, 1) := by decide +kernel
theorem dX0_write_16 : decode cX0_write 16 = .ok (.ireturn, 1) := by decide +kernel
theorem dX0_write_17 : decode cX0_write 17 = .ok (.iconst 0, 1) := by decide +kernel
theorem dX0_write_18 : decode cX0_write 18 = .ok (.ireturn, 1) := by decide +kernel
theorem dX0_finish_0 : decode cX0_finish 0 = .ok (.aload_n 3, 1) := by decide +kernel
theorem dX0_finish_1 : decode cX0_finish 1 = .ok (.iconst 0, 1) := by decide +kernel
theorem dX0_finish_2 : decode cX0_finish 2 = .ok (.aload_n 0, 1) := by decide +kernel
theorem dX0_finish_3 : decode cX0_finish 3 = .ok (.iload_n 1, 1) := by decide +kernel
theorem dX0_finish_4 : decode cX0_finish 4 = .ok (.iload_n 2, 1) := by decide +kernel
theorem dX0_finish_5 : decode cX0_finish 5 = .ok (.invokevirtual 32, 3) := by decide +kernel
theorem dX0_finish_8 : decode cX0_finish 8 = .ok (.ifCond .eq 7, 3) := by decide +kernel
theorem dX0_finish_11 : decode cX0_finish 11 = .ok (.lconst 1, 1) := by decide +kernel
theorem dX0_finish_12 : decode cX0_finish 12 = .ok (.goto 4, 3) := by decide +kernel
theorem dX0_finish_15 : decode cX0_finish 15 = .ok (.lconst 0, 1) := by decide +kernel
theorem dX0_finish_16 : decode cX0_finish 16 = .ok (.lastore, 1) := by decide +kernel
theorem dX0_finish_17 : decode cX0_finish 17 = .ok (.goto 7, 3) := by decide +kernel
theorem dX0_finish_20 : decode cX0_finish 20 = .ok (.astore 4, 2) := by decide +kernel
theorem dX0_finish_22 : decode cX0_finish 22 = .ok (.iconst 1, 1) := by decide +kernel
theorem dX0_finish_23 : decode cX0_finish 23 = .ok (.ireturn, 1) := by decide +kernel
theorem dX0_finish_24 : decode cX0_finish 24 = .ok (.iconst 0, 1) := by decide +kernel
theorem dX0_finish_25 : decode cX0_finish 25 = .ok (.ireturn, 1) := by decide +kernel
theorem dX0_reset_0 : decode cX0_reset 0 = .ok (.aload 5, 2) := by decide +kernel
theorem dX0_reset_2 : decode cX0_reset 2 = .ok (.iconst 0, 1) := by decide +kernel
theorem dX0_reset_3 : decode cX0_reset 3 = .ok (.aload_n 0, 1) := by decide +kernel
theorem dX0_reset_4 : decode cX0_reset 4 = .ok (.iload_n 1, 1) := by decide +kernel
theorem dX0_reset_5 : decode cX0_reset 5 = .ok (.iload_n 2, 1) := by decide +kernel
theorem dX0_reset_6 : decode cX0_reset 6 = .ok (.lload_n 3, 1) := by decide +kernel
theorem dX0_reset_7 : decode cX0_reset 7 = .ok (.invokevirtual 36, 3) := by decide +kernel
theorem dX0_reset_10 : decode cX0_reset 10 = .ok (.ifCond .eq 7, 3) := by decide +kernel
theorem dX0_reset_13 : decode cX0_reset 13 = .ok (.lconst 1, 1) := by decide +kernel
theorem dX0_reset_14 : decode cX0_reset 14 = .ok (.goto 4, 3) := by decide +kernel
theorem dX0_reset_17 : decode cX0_reset 17 = .ok (.lconst 0, 1) := by decide +kernel
theorem dX0_reset_18 : decode cX0_reset 18 = .ok (.lastore, 1) := by decide +kernel
theorem dX0_reset_19 : decode cX0_reset 19 = .ok (.goto 7, 3) := by decide +kernel
theorem dX0_reset_22 : decode cX0_reset 22 = .ok (.astore 6, 2) := by decide +kernel
theorem dX0_reset_24 : decode cX0_reset 24 = .ok (.iconst 1, 1) := by decide +kernel
theorem dX0_reset_25 : decode cX0_reset 25 = .ok (.ireturn, 1) := by decide +kernel
theorem dX0_reset_26 : decode cX0_reset 26 = .ok (.iconst 0, 1) := by decide +kernel
theorem dX0_reset_27 : decode cX0_reset 27 = .ok (.ireturn, 1) := by decide +kernel
theorem dX0_stop_0 : decode cX0_stop 0 = .ok (.aload 5, 2) := by decide +kernel
theorem dX0_stop_2 : decode cX0_stop 2 = .ok (.iconst 0, 1) := by decide +kernel
theorem dX0_stop_3 : decode cX0_stop 3 = .ok (.aload_n 0, 1) := by decide +kernel
theorem dX0_stop_4 : decode cX0_stop 4 = .ok (.iload_n 1, 1) := by decide +kernel
theorem dX0_stop_5 : decode cX0_stop 5 = .ok (.iload_n 2, 1) := by decide +kernel
theorem dX0_stop_6 : decode cX0_stop 6 = .ok (.lload_n 3, 1) := by decide +kernel
theorem dX0_stop_7 : decode cX0_stop 7 = .ok (.invokevirtual 40, 3) := by decide +kernel
theorem dX0_stop_10 : decode cX0_stop 10 = .ok (.ifCond .eq 7, 3) := by decide +kernel
theorem dX0_stop_13 : decode cX0_stop 13 = .ok (.lconst 1, 1) := by decide +kernel
theorem dX0_stop_14 : decode cX0_stop 14 = .ok (.goto 4, 3) := by decide +kernel
theorem dX0_stop_17 : decode cX0_stop 17 = .ok (.lconst 0, 1) := by decide +kernel
theorem dX0_stop_18 : decode cX0_stop 18 = .ok (.lastore, 1) := by decide +kernel
theorem dX0_stop_19 : decode cX0_stop 19 = .ok (.goto 7, 3) := by decide +kernel
theorem dX0_stop_22 : decode cX0_stop 22 = .ok (.astore 6, 2) := by decide +kernel
theorem dX0_stop_24 : decode cX0_stop 24 = .ok (.iconst 1, 1) := by decide +kernel
theorem dX0_stop_25 : decode cX0_stop 25 = .ok (.ireturn, 1) := by decide +kernel
theorem dX0_stop_26 : decode cX0_stop 26 = .ok (.iconst 0, 1) := by decide +kernel
theorem dX0_stop_27 : decode cX0_stop 27 = .ok (.ireturn, 1) := by decide +kernel
theorem dX0_read_0 : decode cX0_read 0 = .ok (.aload 4, 2) := by decide +kernel
theorem dX0_read_2 : decode cX0_read 2 = .ok (.iconst 0, 1) := by decide +kernel
theorem dX0_read_3 : decode cX0_read 3 = .ok (.aload_n 0, 1) := by decide +kernel
theorem dX0_read_4 : decode cX0_read 4 = .ok (.iload_n 1, 1) := by decide +kernel
theorem dX0_read_5 : decode cX0_read 5 = .ok (.iload_n 2, 1) := by decide +kernel
theorem dX0_read_6 : decode cX0_read 6 = .ok (.iload_n 3, 1) := by decide +kernel
theorem dX0_read_7 : decode cX0_read 7 = .ok (.invokevirtual 43, 3) := by decide +kernel
theorem dX0_read_10 : decode cX0_read 10 = .ok (.i2l, 1) := by decide +kernel
theorem dX0_read_11 : decode cX0_read 11 = .ok (.lastore, 1) := by decide +kernel
theorem dX0_read_12 : decode cX0_read 12 = .ok (.goto 7, 3) := by decide +kernel
theorem dX0_read_15 : decode cX0_read 15 = .ok (.astore 5, 2) := by decide +kernel
theorem dX0_read_17 : decode cX0_read 17 = .ok (.iconst 1, 1) := by decide +kernel
theorem dX0_read_18 : decode cX0_read 18 = .ok (.ireturn, 1) := by decide +kernel
theorem dX0_read_19 : decode cX0_read 19 = .ok (.iconst 0, 1) := by decide +kernel
theorem dX0_read_20 : decode cX0_read 20 = .ok (.ireturn, 1) := by decide +kernel
theorem dX0_fill_0 : decode cX0_fill 0 = .ok (.aload_n 3, 1) := by decide +kernel
theorem dX0_fill_1 : decode cX0_fill 1 = .ok (.iconst 0, 1) := by decide +kernel
theorem dX0_fill_2 : decode cX0_fill 2 = .ok (.aload_n 0, 1) := by decide +kernel
theorem dX0_fill_3 : decode cX0_fill 3 = .ok (.iload_n 1, 1) := by decide +kernel
theorem dX0_fill_4 : decode cX0_fill 4 = .ok (.iload_n 2, 1) := by decide +kernel
theorem dX0_fill_5 : decode cX0_fill 5 = .ok (.invokevirtual 47, 3) := by decide +kernel
theorem dX0_fill_8 : decode cX0_fill 8 = .ok (.i2l, 1) := by decide +kernel
theorem dX0_fill_9 : decode cX0_fill 9 = .ok (.lastore, 1) := by decide +kernel
theorem dX0_fill_10 : decode cX0_fill 10 = .ok (.goto 11, 3) := by decide +kernel
theorem dX0_fill_13 : decode cX0_fill 13 = .ok (.astore 4, 2) := by decide +kernel
theorem dX0_fill_15 : decode cX0_fill 15 = .ok (.iconst 1, 1) := by decide +kernel
theorem dX0_fill_16 : decode cX0_fill 16 = .ok (.ireturn, 1) := by decide +kernel
theorem dX0_fill_17 : decode cX0_fill 17 = .ok (.astore 4, 2) := by decide +kernel
theorem dX0_fill_19 : decode cX0_fill 19 = .ok (.iconst 2, 1) := by decide +kernel
theorem dX0_fill_20 : decode cX0_fill 20 = .ok (.ireturn, 1) := by decide +kernel
theorem dX0_fill_21 : decode cX0_fill 21 = .ok (.iconst 0, 1) := by decide +kernel
theorem dX0_fill_22 : decode cX0_fill 22 = .ok (.ireturn, 1) := by decide +kernel
theorem dX0_deliver_0 : decode cX0_deliver 0 = .ok (.aload_n 2, 1) := by decide +kernel
theorem dX0_deliver_1 : decode cX0_deliver 1 = .ok (.iconst 0, 1) := by decide +kernel
theorem dX0_deliver_2 : decode cX0_deliver 2 = .ok (.aload_n 0, 1) := by decide +kernel
theorem dX0_deliver_3 : decode cX0_deliver 3 = .ok (.iload_n 1, 1) := by decide +kernel
theorem dX0_deliver_4 : decode cX0_deliver 4 = .ok (.invokevirtual 50, 3) := by decide +kernel
theorem dX0_deliver_7 : decode cX0_deliver 7 = .ok (.i2l, 1) := by decide +kernel
theorem dX0_deliver_8 : decode cX0_deliver 8 = .ok (.lastore, 1) := by decide +kernel
theorem dX0_deliver_9 : decode cX0_deliver 9 = .ok (.goto 6, 3) := by decide +kernel
theorem dX0_deliver_12 : decode cX0_deliver 12 = .ok (.astore_n 3, 1) := by decide +kernel
theorem dX0_deliver_13 : decode cX0_deliver 13 = .ok (.iconst 1, 1) := by decide +kernel
theorem dX0_deliver_14 : decode cX0_deliver 14 = .ok (.ireturn, 1) := by decide +kernel
theorem dX0_deliver_15 : decode cX0_deliver 15 = .ok (.iconst 0, 1) := by decide +kernel
theorem dX0_deliver_16 : decode cX0_deliver 16 = .ok (.ireturn, 1) := by decide +kernel
theorem dX0_gone_0 : decode cX0_gone 0 = .ok (.aload_n 0, 1) := by decide +kernel
theorem dX0_gone_1 : decode cX0_gone 1 = .ok (.iload_n 1, 1) := by decide +kernel
theorem dX0_gone_2 : decode cX0_gone 2 = .ok (.iload_n 2, 1) := by decide +kernel
theorem dX0_gone_3 : decode cX0_gone 3 = .ok (.invokevirtual 56, 3) := by decide +kernel
theorem dX0_gone_6 : decode cX0_gone 6 = .ok (.goto 9, 3) := by decide +kernel
theorem dX0_gone_9 : decode cX0_gone 9 = .ok (.astore_n 3, 1) := by decide +kernel
theorem dX0_gone_10 : decode cX0_gone 10 = .ok (.iconst 1, 1) := by decide +kernel
theorem dX0_gone_11 : decode cX0_gone 11 = .ok (.ireturn, 1) := by decide +kernel
theorem dX0_gone_12 : decode cX0_gone 12 = .ok (.astore_n 3, 1) := by decide +kernel
theorem dX0_gone_13 : decode cX0_gone 13 = .ok (.iconst 2, 1) := by decide +kernel
theorem dX0_gone_14 : decode cX0_gone 14 = .ok (.ireturn, 1) := by decide +kernel
theorem dX0_gone_15 : decode cX0_gone 15 = .ok (.iconst 0, 1) := by decide +kernel
theorem dX0_gone_16 : decode cX0_gone 16 = .ok (.ireturn, 1) := by decide +kernel
theorem dX0_take_0 : decode cX0_take 0 = .ok (.aload 9, 2) := by decide +kernel
theorem dX0_take_2 : decode cX0_take 2 = .ok (.iconst 0, 1) := by decide +kernel
theorem dX0_take_3 : decode cX0_take 3 = .ok (.aload_n 0, 1) := by decide +kernel
theorem dX0_take_4 : decode cX0_take 4 = .ok (.iload_n 1, 1) := by decide +kernel
theorem dX0_take_5 : decode cX0_take 5 = .ok (.iload_n 2, 1) := by decide +kernel
theorem dX0_take_6 : decode cX0_take 6 = .ok (.lload_n 3, 1) := by decide +kernel
theorem dX0_take_7 : decode cX0_take 7 = .ok (.lload 5, 2) := by decide +kernel
theorem dX0_take_9 : decode cX0_take 9 = .ok (.lload 7, 2) := by decide +kernel
theorem dX0_take_11 : decode cX0_take 11 = .ok (.invokevirtual 60, 3) := by decide +kernel
theorem dX0_take_14 : decode cX0_take 14 = .ok (.i2l, 1) := by decide +kernel
theorem dX0_take_15 : decode cX0_take 15 = .ok (.lastore, 1) := by decide +kernel
theorem dX0_take_16 : decode cX0_take 16 = .ok (.goto 11, 3) := by decide +kernel
theorem dX0_take_19 : decode cX0_take 19 = .ok (.astore 10, 2) := by decide +kernel
theorem dX0_take_21 : decode cX0_take 21 = .ok (.iconst 1, 1) := by decide +kernel
theorem dX0_take_22 : decode cX0_take 22 = .ok (.ireturn, 1) := by decide +kernel
theorem dX0_take_23 : decode cX0_take 23 = .ok (.astore 10, 2) := by decide +kernel
theorem dX0_take_25 : decode cX0_take 25 = .ok (.iconst 2, 1) := by decide +kernel
theorem dX0_take_26 : decode cX0_take 26 = .ok (.ireturn, 1) := by decide +kernel
theorem dX0_take_27 : decode cX0_take 27 = .ok (.iconst 0, 1) := by decide +kernel
theorem dX0_take_28 : decode cX0_take 28 = .ok (.ireturn, 1) := by decide +kernel
theorem dX0_line_0 : decode cX0_line 0 = .ok (.aload_n 3, 1) := by decide +kernel
theorem dX0_line_1 : decode cX0_line 1 = .ok (.iconst 0, 1) := by decide +kernel
theorem dX0_line_2 : decode cX0_line 2 = .ok (.aload_n 0, 1) := by decide +kernel
theorem dX0_line_3 : decode cX0_line 3 = .ok (.iload_n 1, 1) := by decide +kernel
theorem dX0_line_4 : decode cX0_line 4 = .ok (.iload_n 2, 1) := by decide +kernel
theorem dX0_line_5 : decode cX0_line 5 = .ok (.invokevirtual 64, 3) := by decide +kernel
theorem dX0_line_8 : decode cX0_line 8 = .ok (.lastore, 1) := by decide +kernel
theorem dX0_line_9 : decode cX0_line 9 = .ok (.goto 7, 3) := by decide +kernel
theorem dX0_line_12 : decode cX0_line 12 = .ok (.astore 4, 2) := by decide +kernel
theorem dX0_line_14 : decode cX0_line 14 = .ok (.iconst 1, 1) := by decide +kernel
theorem dX0_line_15 : decode cX0_line 15 = .ok (.ireturn, 1) := by decide +kernel
theorem dX0_line_16 : decode cX0_line 16 = .ok (.iconst 0, 1) := by decide +kernel
theorem dX0_line_17 : decode cX0_line 17 = .ok (.ireturn, 1) := by decide +kernel
theorem dX0_data_0 : decode cX0_data 0 = .ok (.aload_n 3, 1) := by decide +kernel
theorem dX0_data_1 : decode cX0_data 1 = .ok (.iconst 0, 1) := by decide +kernel
theorem dX0_data_2 : decode cX0_data 2 = .ok (.aload_n 0, 1) := by decide +kernel
theorem dX0_data_3 : decode cX0_data 3 = .ok (.iload_n 1, 1) := by decide +kernel
theorem dX0_data_4 : decode cX0_data 4 = .ok (.iload_n 2, 1) := by decide +kernel
theorem dX0_data_5 : decode cX0_data 5 = .ok (.invokevirtual 68, 3) := by decide +kernel
theorem dX0_data_8 : decode cX0_data 8 = .ok (.i2l, 1) := by decide +kernel
theorem dX0_data_9 : decode cX0_data 9 = .ok (.lastore, 1) := by decide +kernel
theorem dX0_data_10 : decode cX0_data 10 = .ok (.goto 7, 3) := by decide +kernel
theorem dX0_data_13 : decode cX0_data 13 = .ok (.astore 4, 2) := by decide +kernel
theorem dX0_data_15 : decode cX0_data 15 = .ok (.iconst 1, 1) := by decide +kernel
theorem dX0_data_16 : decode cX0_data 16 = .ok (.ireturn, 1) := by decide +kernel
theorem dX0_data_17 : decode cX0_data 17 = .ok (.iconst 0, 1) := by decide +kernel
theorem dX0_data_18 : decode cX0_data 18 = .ok (.ireturn, 1) := by decide +kernel
theorem dX0_outs_0 : decode cX0_outs 0 = .ok (.aload_n 2, 1) := by decide +kernel
theorem dX0_outs_1 : decode cX0_outs 1 = .ok (.iconst 0, 1) := by decide +kernel
theorem dX0_outs_2 : decode cX0_outs 2 = .ok (.aload_n 0, 1) := by decide +kernel
theorem dX0_outs_3 : decode cX0_outs 3 = .ok (.iload_n 1, 1) := by decide +kernel
theorem dX0_outs_4 : decode cX0_outs 4 = .ok (.invokevirtual 71, 3) := by decide +kernel
theorem dX0_outs_7 : decode cX0_outs 7 = .ok (.lastore, 1) := by decide +kernel
theorem dX0_outs_8 : decode cX0_outs 8 = .ok (.goto 6, 3) := by decide +kernel
theorem dX0_outs_11 : decode cX0_outs 11 = .ok (.astore_n 3, 1) := by decide +kernel
theorem dX0_outs_12 : decode cX0_outs 12 = .ok (.iconst 1, 1) := by decide +kernel
theorem dX0_outs_13 : decode cX0_outs 13 = .ok (.ireturn, 1) := by decide +kernel
theorem dX0_outs_14 : decode cX0_outs 14 = .ok (.iconst 0, 1) := by decide +kernel
theorem dX0_outs_15 : decode cX0_outs 15 = .ok (.ireturn, 1) := by decide +kernel
theorem dX0_stream_0 : decode cX0_stream 0 = .ok (.aload 4, 2) := by decide +kernel
theorem dX0_stream_2 : decode cX0_stream 2 = .ok (.iconst 0, 1) := by decide +kernel
theorem dX0_stream_3 : decode cX0_stream 3 = .ok (.aload_n 0, 1) := by decide +kernel
theorem dX0_stream_4 : decode cX0_stream 4 = .ok (.iload_n 1, 1) := by decide +kernel
theorem dX0_stream_5 : decode cX0_stream 5 = .ok (.iload_n 2, 1) := by decide +kernel
theorem dX0_stream_6 : decode cX0_stream 6 = .ok (.iload_n 3, 1) := by decide +kernel
theorem dX0_stream_7 : decode cX0_stream 7 = .ok (.invokevirtual 75, 3) := by decide +kernel
theorem dX0_stream_10 : decode cX0_stream 10 = .ok (.lastore, 1) := by decide +kernel
theorem dX0_stream_11 : decode cX0_stream 11 = .ok (.goto 7, 3) := by decide +kernel
theorem dX0_stream_14 : decode cX0_stream 14 = .ok (.astore 5, 2) := by decide +kernel
theorem dX0_stream_16 : decode cX0_stream 16 = .ok (.iconst 1, 1) := by decide +kernel
theorem dX0_stream_17 : decode cX0_stream 17 = .ok (.ireturn, 1) := by decide +kernel
theorem dX0_stream_18 : decode cX0_stream 18 = .ok (.iconst 0, 1) := by decide +kernel
theorem dX0_stream_19 : decode cX0_stream 19 = .ok (.ireturn, 1) := by decide +kernel
theorem dX0_side_0 : decode cX0_side 0 = .ok (.aload_n 3, 1) := by decide +kernel
theorem dX0_side_1 : decode cX0_side 1 = .ok (.iconst 0, 1) := by decide +kernel
theorem dX0_side_2 : decode cX0_side 2 = .ok (.aload_n 0, 1) := by decide +kernel
theorem dX0_side_3 : decode cX0_side 3 = .ok (.iload_n 1, 1) := by decide +kernel
theorem dX0_side_4 : decode cX0_side 4 = .ok (.iload_n 2, 1) := by decide +kernel
theorem dX0_side_5 : decode cX0_side 5 = .ok (.invokevirtual 79, 3) := by decide +kernel
theorem dX0_side_8 : decode cX0_side 8 = .ok (.lastore, 1) := by decide +kernel
theorem dX0_side_9 : decode cX0_side 9 = .ok (.goto 7, 3) := by decide +kernel
theorem dX0_side_12 : decode cX0_side 12 = .ok (.astore 4, 2) := by decide +kernel
theorem dX0_side_14 : decode cX0_side 14 = .ok (.iconst 1, 1) := by decide +kernel
theorem dX0_side_15 : decode cX0_side 15 = .ok (.ireturn, 1) := by decide +kernel
theorem dX0_side_16 : decode cX0_side 16 = .ok (.iconst 0, 1) := by decide +kernel
theorem dX0_side_17 : decode cX0_side 17 = .ok (.ireturn, 1) := by decide +kernel
theorem dX3_init_0 : decode cX3_init 0 = .ok (.aload_n 0, 1) := by decide +kernel
theorem dX3_init_1 : decode cX3_init 1 = .ok (.invokespecial 3, 3) := by decide +kernel
theorem dX3_init_4 : decode cX3_init 4 = .ok (.aload_n 0, 1) := by decide +kernel
theorem dX3_init_5 : decode cX3_init 5 = .ok (.ldc2_w 9, 3) := by decide +kernel
theorem dX3_init_8 : decode cX3_init 8 = .ok (.putfield 11, 3) := by decide +kernel
theorem dX3_init_11 : decode cX3_init 11 = .ok (.aload_n 0, 1) := by decide +kernel
theorem dX3_init_12 : decode cX3_init 12 = .ok (.ldc2_w 9, 3) := by decide +kernel
theorem dX3_init_15 : decode cX3_init 15 = .ok (.putfield 17, 3) := by decide +kernel
theorem dX3_init_18 : decode cX3_init 18 = .ok (.return_, 1) := by decide +kernel
theorem dX4_init_0 : decode cX4_init 0 = .ok (.aload_n 0, 1) := by decide +kernel
theorem dX4_init_1 : decode cX4_init 1 = .ok (.invokespecial 3, 3) := by decide +kernel
theorem dX4_init_4 : decode cX4_init 4 = .ok (.aload_n 0, 1) := by decide +kernel
theorem dX4_init_5 : decode cX4_init 5 = .ok (.bipush 64, 2) := by decide +kernel
theorem dX4_init_7 : decode cX4_init 7 = .ok (.newarray .int, 2) := by decide +kernel
theorem dX4_init_9 : decode cX4_init 9 = .ok (.putfield 9, 3) := by decide +kernel
theorem dX4_init_12 : decode cX4_init 12 = .ok (.aload_n 0, 1) := by decide +kernel
theorem dX4_init_13 : decode cX4_init 13 = .ok (.bipush 64, 2) := by decide +kernel
theorem dX4_init_15 : decode cX4_init 15 = .ok (.newarray .int, 2) := by decide +kernel
theorem dX4_init_17 : decode cX4_init 17 = .ok (.putfield 15, 3) := by decide +kernel
theorem dX4_init_20 : decode cX4_init 20 = .ok (.aload_n 0, 1) := by decide +kernel
theorem dX4_init_21 : decode cX4_init 21 = .ok (.bipush 64, 2) := by decide +kernel
theorem dX4_init_23 : decode cX4_init 23 = .ok (.newarray .int, 2) := by decide +kernel
theorem dX4_init_25 : decode cX4_init 25 = .ok (.putfield 18, 3) := by decide +kernel
theorem dX4_init_28 : decode cX4_init 28 = .ok (.aload_n 0, 1) := by decide +kernel
theorem dX4_init_29 : decode cX4_init 29 = .ok (.iconst (-1), 1) := by decide +kernel
theorem dX4_init_30 : decode cX4_init 30 = .ok (.putfield 21, 3) := by decide +kernel
theorem dX4_init_33 : decode cX4_init 33 = .ok (.return_, 1) := by decide +kernel
theorem dX4_cut_0 : decode cX4_cut 0 = .ok (.iload_n 1, 1) := by decide +kernel
theorem dX4_cut_1 : decode cX4_cut 1 = .ok (.istore 4, 2) := by decide +kernel
theorem dX4_cut_3 : decode cX4_cut 3 = .ok (.iconst (-1), 1) := by decide +kernel
theorem dX4_cut_4 : decode cX4_cut 4 = .ok (.istore 5, 2) := by decide +kernel
theorem dX4_cut_6 : decode cX4_cut 6 = .ok (.iload_n 1, 1) := by decide +kernel
theorem dX4_cut_7 : decode cX4_cut 7 = .ok (.istore 6, 2) := by decide +kernel
theorem dX4_cut_9 : decode cX4_cut 9 = .ok (.iload 6, 2) := by decide +kernel
theorem dX4_cut_11 : decode cX4_cut 11 = .ok (.iconst (-1), 1) := by decide +kernel
theorem dX4_cut_12 : decode cX4_cut 12 = .ok (.if_icmp .eq 118, 3) := by decide +kernel
theorem dX4_cut_15 : decode cX4_cut 15 = .ok (.aload_n 0, 1) := by decide +kernel
theorem dX4_cut_16 : decode cX4_cut 16 = .ok (.getfield 9, 3) := by decide +kernel
theorem dX4_cut_19 : decode cX4_cut 19 = .ok (.iload 6, 2) := by decide +kernel
theorem dX4_cut_21 : decode cX4_cut 21 = .ok (.iaload, 1) := by decide +kernel
theorem dX4_cut_22 : decode cX4_cut 22 = .ok (.iload_n 3, 1) := by decide +kernel
theorem dX4_cut_23 : decode cX4_cut 23 = .ok (.if_icmp .ge 107, 3) := by decide +kernel
theorem dX4_cut_26 : decode cX4_cut 26 = .ok (.aload_n 0, 1) := by decide +kernel
theorem dX4_cut_27 : decode cX4_cut 27 = .ok (.getfield 18, 3) := by decide +kernel
theorem dX4_cut_30 : decode cX4_cut 30 = .ok (.iload 6, 2) := by decide +kernel
theorem dX4_cut_32 : decode cX4_cut 32 = .ok (.iaload, 1) := by decide +kernel
theorem dX4_cut_33 : decode cX4_cut 33 = .ok (.istore 7, 2) := by decide +kernel
theorem dX4_cut_35 : decode cX4_cut 35 = .ok (.aload_n 0, 1) := by decide +kernel
theorem dX4_cut_36 : decode cX4_cut 36 = .ok (.getfield 9, 3) := by decide +kernel
theorem dX4_cut_39 : decode cX4_cut 39 = .ok (.iload 6, 2) := by decide +kernel
theorem dX4_cut_41 : decode cX4_cut 41 = .ok (.iaload, 1) := by decide +kernel
theorem dX4_cut_42 : decode cX4_cut 42 = .ok (.iload_n 2, 1) := by decide +kernel
theorem dX4_cut_43 : decode cX4_cut 43 = .ok (.if_icmp .lt 18, 3) := by decide +kernel
theorem dX4_cut_46 : decode cX4_cut 46 = .ok (.aload_n 0, 1) := by decide +kernel
theorem dX4_cut_47 : decode cX4_cut 47 = .ok (.getfield 15, 3) := by decide +kernel
theorem dX4_cut_50 : decode cX4_cut 50 = .ok (.iload 6, 2) := by decide +kernel
theorem dX4_cut_52 : decode cX4_cut 52 = .ok (.iaload, 1) := by decide +kernel
theorem dX4_cut_53 : decode cX4_cut 53 = .ok (.iload_n 3, 1) := by decide +kernel
theorem dX4_cut_54 : decode cX4_cut 54 = .ok (.if_icmp .gt 7, 3) := by decide +kernel
theorem dX4_cut_57 : decode cX4_cut 57 = .ok (.iconst 1, 1) := by decide +kernel
theorem dX4_cut_58 : decode cX4_cut 58 = .ok (.goto 4, 3) := by decide +kernel
theorem dX4_cut_61 : decode cX4_cut 61 = .ok (.iconst 0, 1) := by decide +kernel
theorem dX4_cut_62 : decode cX4_cut 62 = .ok (.istore 8, 2) := by decide +kernel
theorem dX4_cut_64 : decode cX4_cut 64 = .ok (.iload 8, 2) := by decide +kernel
theorem dX4_cut_66 : decode cX4_cut 66 = .ok (.ifCond .eq 34, 3) := by decide +kernel
theorem dX4_cut_69 : decode cX4_cut 69 = .ok (.aload_n 0, 1) := by decide +kernel
theorem dX4_cut_70 : decode cX4_cut 70 = .ok (.iload 6, 2) := by decide +kernel
theorem dX4_cut_72 : decode cX4_cut 72 = .ok (.invokevirtual 43, 3) := by decide +kernel
theorem dX4_cut_75 : decode cX4_cut 75 = .ok (.iload 5, 2) := by decide +kernel
theorem dX4_cut_77 : decode cX4_cut 77 = .ok (.iconst (-1), 1) := by decide +kernel
theorem dX4_cut_78 : decode cX4_cut 78 = .ok (.if_icmp .ne 10, 3) := by decide +kernel
theorem dX4_cut_81 : decode cX4_cut 81 = .ok (.iload 7, 2) := by decide +kernel
theorem dX4_cut_83 : decode cX4_cut 83 = .ok (.istore 4, 2) := by decide +kernel
theorem dX4_cut_85 : decode cX4_cut 85 = .ok (.goto 38, 3) := by decide +kernel
theorem dX4_cut_88 : decode cX4_cut 88 = .ok (.aload_n 0, 1) := by decide +kernel
theorem dX4_cut_89 : decode cX4_cut 89 = .ok (.getfield 18, 3) := by decide +kernel
theorem dX4_cut_92 : decode cX4_cut 92 = .ok (.iload 5, 2) := by decide +kernel
theorem dX4_cut_94 : decode cX4_cut 94 = .ok (.iload 7, 2) := by decide +kernel
theorem dX4_cut_96 : decode cX4_cut 96 = .ok (.iastore, 1) := by decide +kernel
theorem dX4_cut_97 : decode cX4_cut 97 = .ok (.goto 26, 3) := by decide +kernel
theorem dX4_cut_100 : decode cX4_cut 100 = .ok (.aload_n 0, 1) := by decide +kernel
theorem dX4_cut_101 : decode cX4_cut 101 = .ok (.getfield 15, 3) := by decide +kernel
theorem dX4_cut_104 : decode cX4_cut 104 = .ok (.iload 6, 2) := by decide +kernel
theorem dX4_cut_106 : decode cX4_cut 106 = .ok (.iaload, 1) := by decide +kernel
theorem dX4_cut_107 : decode cX4_cut 107 = .ok (.iload_n 2, 1) := by decide +kernel
theorem dX4_cut_108 : decode cX4_cut 108 = .ok (.if_icmp .le 11, 3) := by decide +kernel
theorem dX4_cut_111 : decode cX4_cut 111 = .ok (.aload_n 0, 1) := by decide +kernel
theorem dX4_cut_112 : decode cX4_cut 112 = .ok (.iload 6, 2) := by decide +kernel
theorem dX4_cut_114 : decode cX4_cut 114 = .ok (.iload_n 2, 1) := by decide +kernel
theorem dX4_cut_115 : decode cX4_cut 115 = .ok (.iload_n 3, 1) := by decide +kernel
theorem dX4_cut_116 : decode cX4_cut 116 = .ok (.invokevirtual 51, 3) := by decide +kernel
theorem dX4_cut_119 : decode cX4_cut 119 = .ok (.iload 6, 2) := by decide +kernel
theorem dX4_cut_121 : decode cX4_cut 121 = .ok (.istore 5, 2) := by decide +kernel
theorem dX4_cut_123 : decode cX4_cut 123 = .ok (.iload 7, 2) := by decide +kernel
theorem dX4_cut_125 : decode cX4_cut 125 = .ok (.istore 6, 2) := by decide +kernel
theorem dX4_cut_127 : decode cX4_cut 127 = .ok (.goto (-118), 3) := by decide +kernel
theorem dX4_cut_130 : decode cX4_cut 130 = .ok (.iload 4, 2) := by decide +kernel
theorem dX4_cut_132 : decode cX4_cut 132 = .ok (.ireturn, 1) := by decide +kernel
theorem dX4_release_0 : decode cX4_release 0 = .ok (.aload_n 0, 1) := by decide +kernel
theorem dX4_release_1 : decode cX4_release 1 = .ok (.getfield 18, 3) := by decide +kernel
theorem dX4_release_4 : decode cX4_release 4 = .ok (.iload_n 1, 1) := by decide +kernel
theorem dX4_release_5 : decode cX4_release 5 = .ok (.aload_n 0, 1) := by decide +kernel
theorem dX4_release_6 : decode cX4_release 6 = .ok (.getfield 21, 3) := by decide +kernel
theorem dX4_release_9 : decode cX4_release 9 = .ok (.iastore, 1) := by decide +kernel
theorem dX4_release_10 : decode cX4_release 10 = .ok (.aload_n 0, 1) := by decide +kernel
theorem dX4_release_11 : decode cX4_release 11 = .ok (.iload_n 1, 1) := by decide +kernel
theorem dX4_release_12 : decode cX4_release 12 = .ok (.putfield 21, 3) := by decide +kernel
theorem dX4_release_15 : decode cX4_release 15 = .ok (.return_, 1) := by decide +kernel
theorem dX4_trim_0 : decode cX4_trim 0 = .ok (.aload_n 0, 1) := by decide +kernel
theorem dX4_trim_1 : decode cX4_trim 1 = .ok (.getfield 9, 3) := by decide +kernel
theorem dX4_trim_4 : decode cX4_trim 4 = .ok (.iload_n 1, 1) := by decide +kernel
theorem dX4_trim_5 : decode cX4_trim 5 = .ok (.iaload, 1) := by decide +kernel
theorem dX4_trim_6 : decode cX4_trim 6 = .ok (.iload_n 2, 1) := by decide +kernel
theorem dX4_trim_7 : decode cX4_trim 7 = .ok (.if_icmp .lt 11, 3) := by decide +kernel
theorem dX4_trim_10 : decode cX4_trim 10 = .ok (.aload_n 0, 1) := by decide +kernel
theorem dX4_trim_11 : decode cX4_trim 11 = .ok (.getfield 9, 3) := by decide +kernel
theorem dX4_trim_14 : decode cX4_trim 14 = .ok (.iload_n 1, 1) := by decide +kernel
theorem dX4_trim_15 : decode cX4_trim 15 = .ok (.iload_n 3, 1) := by decide +kernel
theorem dX4_trim_16 : decode cX4_trim 16 = .ok (.iastore, 1) := by decide +kernel
theorem dX4_trim_17 : decode cX4_trim 17 = .ok (.return_, 1) := by decide +kernel
theorem dX4_trim_18 : decode cX4_trim 18 = .ok (.aload_n 0, 1) := by decide +kernel
theorem dX4_trim_19 : decode cX4_trim 19 = .ok (.getfield 15, 3) := by decide +kernel
theorem dX4_trim_22 : decode cX4_trim 22 = .ok (.iload_n 1, 1) := by decide +kernel
theorem dX4_trim_23 : decode cX4_trim 23 = .ok (.iaload, 1) := by decide +kernel
theorem dX4_trim_24 : decode cX4_trim 24 = .ok (.iload_n 3, 1) := by decide +kernel
theorem dX4_trim_25 : decode cX4_trim 25 = .ok (.if_icmp .le 30, 3) := by decide +kernel
theorem dX4_trim_28 : decode cX4_trim 28 = .ok (.aload_n 0, 1) := by decide +kernel
theorem dX4_trim_29 : decode cX4_trim 29 = .ok (.iload_n 3, 1) := by decide +kernel
theorem dX4_trim_30 : decode cX4_trim 30 = .ok (.aload_n 0, 1) := by decide +kernel
theorem dX4_trim_31 : decode cX4_trim 31 = .ok (.getfield 15, 3) := by decide +kernel
theorem dX4_trim_34 : decode cX4_trim 34 = .ok (.iload_n 1, 1) := by decide +kernel
theorem dX4_trim_35 : decode cX4_trim 35 = .ok (.iaload, 1) := by decide +kernel
theorem dX4_trim_36 : decode cX4_trim 36 = .ok (.aload_n 0, 1) := by decide +kernel
theorem dX4_trim_37 : decode cX4_trim 37 = .ok (.getfield 18, 3) := by decide +kernel
theorem dX4_trim_40 : decode cX4_trim 40 = .ok (.iload_n 1, 1) := by decide +kernel
theorem dX4_trim_41 : decode cX4_trim 41 = .ok (.iaload, 1) := by decide +kernel
theorem dX4_trim_42 : decode cX4_trim 42 = .ok (.invokevirtual 47, 3) := by decide +kernel
theorem dX4_trim_45 : decode cX4_trim 45 = .ok (.istore 4, 2) := by decide +kernel
theorem dX4_trim_47 : decode cX4_trim 47 = .ok (.aload_n 0, 1) := by decide +kernel
theorem dX4_trim_48 : decode cX4_trim 48 = .ok (.getfield 18, 3) := by decide +kernel
theorem dX4_trim_51 : decode cX4_trim 51 = .ok (.iload_n 1, 1) := by decide +kernel
theorem dX4_trim_52 : decode cX4_trim 52 = .ok (.iload 4, 2) := by decide +kernel
theorem dX4_trim_54 : decode cX4_trim 54 = .ok (.iastore, 1) := by decide +kernel
theorem dX4_trim_55 : decode cX4_trim 55 = .ok (.aload_n 0, 1) := by decide +kernel
theorem dX4_trim_56 : decode cX4_trim 56 = .ok (.getfield 15, 3) := by decide +kernel
theorem dX4_trim_59 : decode cX4_trim 59 = .ok (.iload_n 1, 1) := by decide +kernel
theorem dX4_trim_60 : decode cX4_trim 60 = .ok (.iload_n 2, 1) := by decide +kernel
theorem dX4_trim_61 : decode cX4_trim 61 = .ok (.iastore, 1) := by decide +kernel
theorem dX4_trim_62 : decode cX4_trim 62 = .ok (.return_, 1) := by decide +kernel
theorem dX4_make_0 : decode cX4_make 0 = .ok (.aload_n 0, 1) := by decide +kernel
theorem dX4_make_1 : decode cX4_make 1 = .ok (.getfield 21, 3) := by decide +kernel
theorem dX4_make_4 : decode cX4_make 4 = .ok (.istore 4, 2) := by decide +kernel
theorem dX4_make_6 : decode cX4_make 6 = .ok (.iload 4, 2) := by decide +kernel
theorem dX4_make_8 : decode cX4_make 8 = .ok (.iconst (-1), 1) := by decide +kernel
theorem dX4_make_9 : decode cX4_make 9 = .ok (.if_icmp .eq 17, 3) := by decide +kernel
theorem dX4_make_12 : decode cX4_make 12 = .ok (.aload_n 0, 1) := by decide +kernel
theorem dX4_make_13 : decode cX4_make 13 = .ok (.aload_n 0, 1) := by decide +kernel
theorem dX4_make_14 : decode cX4_make 14 = .ok (.getfield 18, 3) := by decide +kernel
theorem dX4_make_17 : decode cX4_make 17 = .ok (.iload 4, 2) := by decide +kernel
theorem dX4_make_19 : decode cX4_make 19 = .ok (.iaload, 1) := by decide +kernel
theorem dX4_make_20 : decode cX4_make 20 = .ok (.putfield 21, 3) := by decide +kernel
theorem dX4_make_23 : decode cX4_make 23 = .ok (.goto 79, 3) := by decide +kernel
theorem dX4_make_26 : decode cX4_make 26 = .ok (.aload_n 0, 1) := by decide +kernel
theorem dX4_make_27 : decode cX4_make 27 = .ok (.getfield 25, 3) := by decide +kernel
theorem dX4_make_30 : decode cX4_make 30 = .ok (.aload_n 0, 1) := by decide +kernel
theorem dX4_make_31 : decode cX4_make 31 = .ok (.getfield 9, 3) := by decide +kernel
theorem dX4_make_34 : decode cX4_make 34 = .ok (.arraylength, 1) := by decide +kernel
theorem dX4_make_35 : decode cX4_make 35 = .ok (.if_icmp .ne 54, 3) := by decide +kernel
theorem dX4_make_38 : decode cX4_make 38 = .ok (.aload_n 0, 1) := by decide +kernel
theorem dX4_make_39 : decode cX4_make 39 = .ok (.aload_n 0, 1) := by decide +kernel
theorem dX4_make_40 : decode cX4_make 40 = .ok (.getfield 9, 3) := by decide +kernel
theorem dX4_make_43 : decode cX4_make 43 = .ok (.iconst 2, 1) := by decide +kernel
theorem dX4_make_44 : decode cX4_make 44 = .ok (.aload_n 0, 1) := by decide +kernel
theorem dX4_make_45 : decode cX4_make 45 = .ok (.getfield 25, 3) := by decide +kernel
theorem dX4_make_48 : decode cX4_make 48 = .ok (.imul, 1) := by decide +kernel
theorem dX4_make_49 : decode cX4_make 49 = .ok (.invokestatic 28, 3) := by decide +kernel
theorem dX4_make_52 : decode cX4_make 52 = .ok (.putfield 9, 3) := by decide +kernel
theorem dX4_make_55 : decode cX4_make 55 = .ok (.aload_n 0, 1) := by decide +kernel
theorem dX4_make_56 : decode cX4_make 56 = .ok (.aload_n 0, 1) := by decide +kernel
theorem dX4_make_57 : decode cX4_make 57 = .ok (.getfield 15, 3) := by decide +kernel
theorem dX4_make_60 : decode cX4_make 60 = .ok (.iconst 2, 1) := by decide +kernel
theorem dX4_make_61 : decode cX4_make 61 = .ok (.aload_n 0, 1) := by decide +kernel
theorem dX4_make_62 : decode cX4_make 62 = .ok (.getfield 25, 3) := by decide +kernel
theorem dX4_make_65 : decode cX4_make 65 = .ok (.imul, 1) := by decide +kernel
theorem dX4_make_66 : decode cX4_make 66 = .ok (.invokestatic 28, 3) := by decide +kernel
theorem dX4_make_69 : decode cX4_make 69 = .ok (.putfield 15, 3) := by decide +kernel
theorem dX4_make_72 : decode cX4_make 72 = .ok (.aload_n 0, 1) := by decide +kernel
theorem dX4_make_73 : decode cX4_make 73 = .ok (.aload_n 0, 1) := by decide +kernel
theorem dX4_make_74 : decode cX4_make 74 = .ok (.getfield 18, 3) := by decide +kernel
theorem dX4_make_77 : decode cX4_make 77 = .ok (.iconst 2, 1) := by decide +kernel
theorem dX4_make_78 : decode cX4_make 78 = .ok (.aload_n 0, 1) := by decide +kernel
theorem dX4_make_79 : decode cX4_make 79 = .ok (.getfield 25, 3) := by decide +kernel
theorem dX4_make_82 : decode cX4_make 82 = .ok (.imul, 1) := by decide +kernel
theorem dX4_make_83 : decode cX4_make 83 = .ok (.invokestatic 28, 3) := by decide +kernel
theorem dX4_make_86 : decode cX4_make 86 = .ok (.putfield 18, 3) := by decide +kernel
theorem dX4_make_89 : decode cX4_make 89 = .ok (.aload_n 0, 1) := by decide +kernel
theorem dX4_make_90 : decode cX4_make 90 = .ok (.dup, 1) := by decide +kernel
theorem dX4_make_91 : decode cX4_make 91 = .ok (.getfield 25, 3) := by decide +kernel
theorem dX4_make_94 : decode cX4_make 94 = .ok (.dup_x1, 1) := by decide +kernel
theorem dX4_make_95 : decode cX4_make 95 = .ok (.iconst 1, 1) := by decide +kernel
theorem dX4_make_96 : decode cX4_make 96 = .ok (.iadd, 1) := by decide +kernel
theorem dX4_make_97 : decode cX4_make 97 = .ok (.putfield 25, 3) := by decide +kernel
theorem dX4_make_100 : decode cX4_make 100 = .ok (.istore 4, 2) := by decide +kernel
theorem dX4_make_102 : decode cX4_make 102 = .ok (.aload_n 0, 1) := by decide +kernel
theorem dX4_make_103 : decode cX4_make 103 = .ok (.getfield 9, 3) := by decide +kernel
theorem dX4_make_106 : decode cX4_make 106 = .ok (.iload 4, 2) := by decide +kernel
theorem dX4_make_108 : decode cX4_make 108 = .ok (.iload_n 1, 1) := by decide +kernel
theorem dX4_make_109 : decode cX4_make 109 = .ok (.iastore, 1) := by decide +kernel
theorem dX4_make_110 : decode cX4_make 110 = .ok (.aload_n 0, 1) := by decide +kernel
theorem dX4_make_111 : decode cX4_make 111 = .ok (.getfield 15, 3) := by decide +kernel
theorem dX4_make_114 : decode cX4_make 114 = .ok (.iload 4, 2) := by decide +kernel
theorem dX4_make_116 : decode cX4_make 116 = .ok (.iload_n 2, 1) := by decide +kernel
theorem dX4_make_117 : decode cX4_make 117 = .ok (.iastore, 1) := by decide +kernel
theorem dX4_make_118 : decode cX4_make 118 = .ok (.aload_n 0, 1) := by decide +kernel
theorem dX4_make_119 : decode cX4_make 119 = .ok (.getfield 18, 3) := by decide +kernel
theorem dX4_make_122 : decode cX4_make 122 = .ok (.iload 4, 2) := by decide +kernel
theorem dX4_make_124 : decode cX4_make 124 = .ok (.iload_n 3, 1) := by decide +kernel
theorem dX4_make_125 : decode cX4_make 125 = .ok (.iastore, 1) := by decide +kernel
theorem dX4_make_126 : decode cX4_make 126 = .ok (.iload 4, 2) := by decide +kernel
theorem dX4_make_128 : decode cX4_make 128 = .ok (.ireturn, 1) := by decide +kernel
theorem dX4_add_0 : decode cX4_add 0 = .ok (.iconst (-1), 1) := by decide +kernel
theorem dX4_add_1 : decode cX4_add 1 = .ok (.istore 4, 2) := by decide +kernel
theorem dX4_add_3 : decode cX4_add 3 = .ok (.iload_n 1, 1) := by decide +kernel
theorem dX4_add_4 : decode cX4_add 4 = .ok (.istore 5, 2) := by decide +kernel
theorem dX4_add_6 : decode cX4_add 6 = .ok (.iload_n 2, 1) := by decide +kernel
theorem dX4_add_7 : decode cX4_add 7 = .ok (.istore 6, 2) := by decide +kernel
theorem dX4_add_9 : decode cX4_add 9 = .ok (.iload_n 3, 1) := by decide +kernel
theorem dX4_add_10 : decode cX4_add 10 = .ok (.istore 7, 2) := by decide +kernel
theorem dX4_add_12 : decode cX4_add 12 = .ok (.iload 5, 2) := by decide +kernel
theorem dX4_add_14 : decode cX4_add 14 = .ok (.iconst (-1), 1) := by decide +kernel
theorem dX4_add_15 : decode cX4_add 15 = .ok (.if_icmp .eq 30, 3) := by decide +kernel
theorem dX4_add_18 : decode cX4_add 18 = .ok (.aload_n 0, 1) := by decide +kernel
theorem dX4_add_19 : decode cX4_add 19 = .ok (.getfield 15, 3) := by decide +kernel
theorem dX4_add_22 : decode cX4_add 22 = .ok (.iload 5, 2) := by decide +kernel
theorem dX4_add_24 : decode cX4_add 24 = .ok (.iaload, 1) := by decide +kernel
theorem dX4_add_25 : decode cX4_add 25 = .ok (.iload_n 2, 1) := by decide +kernel
theorem dX4_add_26 : decode cX4_add 26 = .ok (.if_icmp .ge 19, 3) := by decide +kernel
theorem dX4_add_29 : decode cX4_add 29 = .ok (.iload 5, 2) := by decide +kernel
theorem dX4_add_31 : decode cX4_add 31 = .ok (.istore 4, 2) := by decide +kernel
theorem dX4_add_33 : decode cX4_add 33 = .ok (.aload_n 0, 1) := by decide +kernel
theorem dX4_add_34 : decode cX4_add 34 = .ok (.getfield 18, 3) := by decide +kernel
theorem dX4_add_37 : decode cX4_add 37 = .ok (.iload 5, 2) := by decide +kernel
theorem dX4_add_39 : decode cX4_add 39 = .ok (.iaload, 1) := by decide +kernel
theorem dX4_add_40 : decode cX4_add 40 = .ok (.istore 5, 2) := by decide +kernel
theorem dX4_add_42 : decode cX4_add 42 = .ok (.goto (-30), 3) := by decide +kernel
theorem dX4_add_45 : decode cX4_add 45 = .ok (.iload 5, 2) := by decide +kernel
theorem dX4_add_47 : decode cX4_add 47 = .ok (.iconst (-1), 1) := by decide +kernel
theorem dX4_add_48 : decode cX4_add 48 = .ok (.if_icmp .eq 65, 3) := by decide +kernel
theorem dX4_add_51 : decode cX4_add 51 = .ok (.aload_n 0, 1) := by decide +kernel
theorem dX4_add_52 : decode cX4_add 52 = .ok (.getfield 9, 3) := by decide +kernel
theorem dX4_add_55 : decode cX4_add 55 = .ok (.iload 5, 2) := by decide +kernel
theorem dX4_add_57 : decode cX4_add 57 = .ok (.iaload, 1) := by decide +kernel
theorem dX4_add_58 : decode cX4_add 58 = .ok (.iload 7, 2) := by decide +kernel
theorem dX4_add_60 : decode cX4_add 60 = .ok (.if_icmp .gt 53, 3) := by decide +kernel
theorem dX4_add_63 : decode cX4_add 63 = .ok (.iload 6, 2) := by decide +kernel
theorem dX4_add_65 : decode cX4_add 65 = .ok (.aload_n 0, 1) := by decide +kernel
theorem dX4_add_66 : decode cX4_add 66 = .ok (.getfield 9, 3) := by decide +kernel
theorem dX4_add_69 : decode cX4_add 69 = .ok (.iload 5, 2) := by decide +kernel
theorem dX4_add_71 : decode cX4_add 71 = .ok (.iaload, 1) := by decide +kernel
theorem dX4_add_72 : decode cX4_add 72 = .ok (.invokestatic 34, 3) := by decide +kernel
theorem dX4_add_75 : decode cX4_add 75 = .ok (.istore 6, 2) := by decide +kernel
theorem dX4_add_77 : decode cX4_add 77 = .ok (.iload 7, 2) := by decide +kernel
theorem dX4_add_79 : decode cX4_add 79 = .ok (.aload_n 0, 1) := by decide +kernel
theorem dX4_add_80 : decode cX4_add 80 = .ok (.getfield 15, 3) := by decide +kernel
theorem dX4_add_83 : decode cX4_add 83 = .ok (.iload 5, 2) := by decide +kernel
theorem dX4_add_85 : decode cX4_add 85 = .ok (.iaload, 1) := by decide +kernel
theorem dX4_add_86 : decode cX4_add 86 = .ok (.invokestatic 40, 3) := by decide +kernel
theorem dX4_add_89 : decode cX4_add 89 = .ok (.istore 7, 2) := by decide +kernel
theorem dX4_add_91 : decode cX4_add 91 = .ok (.aload_n 0, 1) := by decide +kernel
theorem dX4_add_92 : decode cX4_add 92 = .ok (.getfield 18, 3) := by decide +kernel
theorem dX4_add_95 : decode cX4_add 95 = .ok (.iload 5, 2) := by decide +kernel
theorem dX4_add_97 : decode cX4_add 97 = .ok (.iaload, 1) := by decide +kernel
theorem dX4_add_98 : decode cX4_add 98 = .ok (.istore 8, 2) := by decide +kernel
theorem dX4_add_100 : decode cX4_add 100 = .ok (.aload_n 0, 1) := by decide +kernel
theorem dX4_add_101 : decode cX4_add 101 = .ok (.iload 5, 2) := by decide +kernel
theorem dX4_add_103 : decode cX4_add 103 = .ok (.invokevirtual 43, 3) := by decide +kernel
theorem dX4_add_106 : decode cX4_add 106 = .ok (.iload 8, 2) := by decide +kernel
theorem dX4_add_108 : decode cX4_add 108 = .ok (.istore 5, 2) := by decide +kernel
theorem dX4_add_110 : decode cX4_add 110 = .ok (.goto (-65), 3) := by decide +kernel
theorem dX4_add_113 : decode cX4_add 113 = .ok (.aload_n 0, 1) := by decide +kernel
theorem dX4_add_114 : decode cX4_add 114 = .ok (.iload 6, 2) := by decide +kernel
theorem dX4_add_116 : decode cX4_add 116 = .ok (.iload 7, 2) := by decide +kernel
theorem dX4_add_118 : decode cX4_add 118 = .ok (.iload 5, 2) := by decide +kernel
theorem dX4_add_120 : decode cX4_add 120 = .ok (.invokevirtual 47, 3) := by decide +kernel
theorem dX4_add_123 : decode cX4_add 123 = .ok (.istore 8, 2) := by decide +kernel
theorem dX4_add_125 : decode cX4_add 125 = .ok (.iload 4, 2) := by decide +kernel
theorem dX4_add_127 : decode cX4_add 127 = .ok (.iconst (-1), 1) := by decide +kernel
theorem dX4_add_128 : decode cX4_add 128 = .ok (.if_icmp .ne 6, 3) := by decide +kernel
theorem dX4_add_131 : decode cX4_add 131 = .ok (.iload 8, 2) := by decide +kernel
theorem dX4_add_133 : decode cX4_add 133 = .ok (.ireturn, 1) := by decide +kernel
theorem dX4_add_134 : decode cX4_add 134 = .ok (.aload_n 0, 1) := by decide +kernel
theorem dX4_add_135 : decode cX4_add 135 = .ok (.getfield 18, 3) := by decide +kernel
theorem dX4_add_138 : decode cX4_add 138 = .ok (.iload 4, 2) := by decide +kernel
theorem dX4_add_140 : decode cX4_add 140 = .ok (.iload 8, 2) := by decide +kernel
theorem dX4_add_142 : decode cX4_add 142 = .ok (.iastore, 1) := by decide +kernel
theorem dX4_add_143 : decode cX4_add 143 = .ok (.iload_n 1, 1) := by decide +kernel
theorem dX4_add_144 : decode cX4_add 144 = .ok (.ireturn, 1) := by decide +kernel
theorem dX4_count_0 : decode cX4_count 0 = .ok (.iconst 0, 1) := by decide +kernel
theorem dX4_count_1 : decode cX4_count 1 = .ok (.istore_n 2, 1) := by decide +kernel
theorem dX4_count_2 : decode cX4_count 2 = .ok (.iload_n 1, 1) := by decide +kernel
theorem dX4_count_3 : decode cX4_count 3 = .ok (.istore_n 3, 1) := by decide +kernel
theorem dX4_count_4 : decode cX4_count 4 = .ok (.iload_n 3, 1) := by decide +kernel
theorem dX4_count_5 : decode cX4_count 5 = .ok (.iconst (-1), 1) := by decide +kernel
theorem dX4_count_6 : decode cX4_count 6 = .ok (.if_icmp .eq 29, 3) := by decide +kernel
theorem dX4_count_9 : decode cX4_count 9 = .ok (.iload_n 2, 1) := by decide +kernel
theorem dX4_count_10 : decode cX4_count 10 = .ok (.aload_n 0, 1) := by decide +kernel
theorem dX4_count_11 : decode cX4_count 11 = .ok (.getfield 15, 3) := by decide +kernel
theorem dX4_count_14 : decode cX4_count 14 = .ok (.iload_n 3, 1) := by decide +kernel
theorem dX4_count_15 : decode cX4_count 15 = .ok (.iaload, 1) := by decide +kernel
theorem dX4_count_16 : decode cX4_count 16 = .ok (.aload_n 0, 1) := by decide +kernel
theorem dX4_count_17 : decode cX4_count 17 = .ok (.getfield 9, 3) := by decide +kernel
theorem dX4_count_20 : decode cX4_count 20 = .ok (.iload_n 3, 1) := by decide +kernel
theorem dX4_count_21 : decode cX4_count 21 = .ok (.iaload, 1) := by decide +kernel
theorem dX4_count_22 : decode cX4_count 22 = .ok (.isub, 1) := by decide +kernel
theorem dX4_count_23 : decode cX4_count 23 = .ok (.iadd, 1) := by decide +kernel
theorem dX4_count_24 : decode cX4_count 24 = .ok (.istore_n 2, 1) := by decide +kernel
theorem dX4_count_25 : decode cX4_count 25 = .ok (.aload_n 0, 1) := by decide +kernel
theorem dX4_count_26 : decode cX4_count 26 = .ok (.getfield 18, 3) := by decide +kernel
theorem dX4_count_29 : decode cX4_count 29 = .ok (.iload_n 3, 1) := by decide +kernel
theorem dX4_count_30 : decode cX4_count 30 = .ok (.iaload, 1) := by decide +kernel
theorem dX4_count_31 : decode cX4_count 31 = .ok (.istore_n 3, 1) := by decide +kernel
theorem dX4_count_32 : decode cX4_count 32 = .ok (.goto (-28), 3) := by decide +kernel
theorem dX4_count_35 : decode cX4_count 35 = .ok (.iload_n 2, 1) := by decide +kernel
theorem dX4_count_36 : decode cX4_count 36 = .ok (.ireturn, 1) := by decide +kernel
theorem dX5_init_0 : decode cX5_init 0 = .ok (.aload_n 0, 1) := by decide +kernel
theorem dX5_init_1 : decode cX5_init 1 = .ok (.invokespecial 3, 3) := by decide +kernel
theorem dX5_init_4 : decode cX5_init 4 = .ok (.aload_n 0, 1) := by decide +kernel
theorem dX5_init_5 : decode cX5_init 5 = .ok (.ldc 9, 2) := by decide +kernel
theorem dX5_init_7 : decode cX5_init 7 = .ok (.newarray .byte, 2) := by decide +kernel
theorem dX5_init_9 : decode cX5_init 9 = .ok (.putfield 10, 3) := by decide +kernel
theorem dX5_init_12 : decode cX5_init 12 = .ok (.aload_n 0, 1) := by decide +kernel
theorem dX5_init_13 : decode cX5_init 13 = .ok (.bipush 64, 2) := by decide +kernel
theorem dX5_init_15 : decode cX5_init 15 = .ok (.newarray .int, 2) := by decide +kernel
theorem dX5_init_17 : decode cX5_init 17 = .ok (.putfield 16, 3) := by decide +kernel
theorem dX5_init_20 : decode cX5_init 20 = .ok (.aload_n 0, 1) := by decide +kernel
theorem dX5_init_21 : decode cX5_init 21 = .ok (.bipush 64, 2) := by decide +kernel
theorem dX5_init_23 : decode cX5_init 23 = .ok (.newarray .int, 2) := by decide +kernel
theorem dX5_init_25 : decode cX5_init 25 = .ok (.putfield 20, 3) := by decide +kernel
theorem dX5_init_28 : decode cX5_init 28 = .ok (.aload_n 0, 1) := by decide +kernel
theorem dX5_init_29 : decode cX5_init 29 = .ok (.bipush 64, 2) := by decide +kernel
theorem dX5_init_31 : decode cX5_init 31 = .ok (.newarray .int, 2) := by decide +kernel
theorem dX5_init_33 : decode cX5_init 33 = .ok (.putfield 23, 3) := by decide +kernel
theorem dX5_init_36 : decode cX5_init 36 = .ok (.return_, 1) := by decide +kernel
theorem dX5_add_0 : decode cX5_add 0 = .ok (.iload 4, 2) := by decide +kernel
theorem dX5_add_2 : decode cX5_add 2 = .ok (.ldc 9, 2) := by decide +kernel
theorem dX5_add_4 : decode cX5_add 4 = .ok (.aload_n 0, 1) := by decide +kernel
theorem dX5_add_5 : decode cX5_add 5 = .ok (.getfield 36, 3) := by decide +kernel
theorem dX5_add_8 : decode cX5_add 8 = .ok (.isub, 1) := by decide +kernel
theorem dX5_add_9 : decode cX5_add 9 = .ok (.invokestatic 39, 3) := by decide +kernel
theorem dX5_add_12 : decode cX5_add 12 = .ok (.istore 5, 2) := by decide +kernel
theorem dX5_add_14 : decode cX5_add 14 = .ok (.iload 5, 2) := by decide +kernel
theorem dX5_add_16 : decode cX5_add 16 = .ok (.ifCond .ne 5, 3) := by decide +kernel
theorem dX5_add_19 : decode cX5_add 19 = .ok (.iconst 0, 1) := by decide +kernel
theorem dX5_add_20 : decode cX5_add 20 = .ok (.ireturn, 1) := by decide +kernel
theorem dX5_add_21 : decode cX5_add 21 = .ok (.aload_n 1, 1) := by decide +kernel
theorem dX5_add_22 : decode cX5_add 22 = .ok (.getfield 45, 3) := by decide +kernel
theorem dX5_add_25 : decode cX5_add 25 = .ok (.iconst (-1), 1) := by decide +kernel
theorem dX5_add_26 : decode cX5_add 26 = .ok (.if_icmp .eq 29, 3) := by decide +kernel
theorem dX5_add_29 : decode cX5_add 29 = .ok (.aload_n 0, 1) := by decide +kernel
theorem dX5_add_30 : decode cX5_add 30 = .ok (.getfield 16, 3) := by decide +kernel
theorem dX5_add_33 : decode cX5_add 33 = .ok (.aload_n 1, 1) := by decide +kernel
theorem dX5_add_34 : decode cX5_add 34 = .ok (.getfield 45, 3) := by decide +kernel
theorem dX5_add_37 : decode cX5_add 37 = .ok (.iaload, 1) := by decide +kernel
theorem dX5_add_38 : decode cX5_add 38 = .ok (.aload_n 0, 1) := by decide +kernel
theorem dX5_add_39 : decode cX5_add 39 = .ok (.getfield 20, 3) := by decide +kernel
theorem dX5_add_42 : decode cX5_add 42 = .ok (.aload_n 1, 1) := by decide +kernel
theorem dX5_add_43 : decode cX5_add 43 = .ok (.getfield 45, 3) := by decide +kernel
theorem dX5_add_46 : decode cX5_add 46 = .ok (.iaload, 1) := by decide +kernel
theorem dX5_add_47 : decode cX5_add 47 = .ok (.iadd, 1) := by decide +kernel
theorem dX5_add_48 : decode cX5_add 48 = .ok (.aload_n 0, 1) := by decide +kernel
theorem dX5_add_49 : decode cX5_add 49 = .ok (.getfield 36, 3) := by decide +kernel
theorem dX5_add_52 : decode cX5_add 52 = .ok (.if_icmp .eq 43, 3) := by decide +kernel
theorem dX5_add_55 : decode cX5_add 55 = .ok (.aload_n 0, 1) := by decide +kernel
theorem dX5_add_56 : decode cX5_add 56 = .ok (.invokevirtual 50, 3) := by decide +kernel
theorem dX5_add_59 : decode cX5_add 59 = .ok (.istore 6, 2) := by decide +kernel
theorem dX5_add_61 : decode cX5_add 61 = .ok (.aload_n 1, 1) := by decide +kernel
theorem dX5_add_62 : decode cX5_add 62 = .ok (.getfield 45, 3) := by decide +kernel
theorem dX5_add_65 : decode cX5_add 65 = .ok (.iconst (-1), 1) := by decide +kernel
theorem dX5_add_66 : decode cX5_add 66 = .ok (.if_icmp .ne 12, 3) := by decide +kernel
theorem dX5_add_69 : decode cX5_add 69 = .ok (.aload_n 1, 1) := by decide +kernel
theorem dX5_add_70 : decode cX5_add 70 = .ok (.iload 6, 2) := by decide +kernel
theorem dX5_add_72 : decode cX5_add 72 = .ok (.putfield 54, 3) := by decide +kernel
theorem dX5_add_75 : decode cX5_add 75 = .ok (.goto 14, 3) := by decide +kernel
theorem dX5_add_78 : decode cX5_add 78 = .ok (.aload_n 0, 1) := by decide +kernel
theorem dX5_add_79 : decode cX5_add 79 = .ok (.getfield 23, 3) := by decide +kernel
theorem dX5_add_82 : decode cX5_add 82 = .ok (.aload_n 1, 1) := by decide +kernel
theorem dX5_add_83 : decode cX5_add 83 = .ok (.getfield 45, 3) := by decide +kernel
theorem dX5_add_86 : decode cX5_add 86 = .ok (.iload 6, 2) := by decide +kernel
theorem dX5_add_88 : decode cX5_add 88 = .ok (.iastore, 1) := by decide +kernel
theorem dX5_add_89 : decode cX5_add 89 = .ok (.aload_n 1, 1) := by decide +kernel
theorem dX5_add_90 : decode cX5_add 90 = .ok (.iload 6, 2) := by decide +kernel
theorem dX5_add_92 : decode cX5_add 92 = .ok (.putfield 45, 3) := by decide +kernel
theorem dX5_add_95 : decode cX5_add 95 = .ok (.aload_n 2, 1) := by decide +kernel
theorem dX5_add_96 : decode cX5_add 96 = .ok (.iload_n 3, 1) := by decide +kernel
theorem dX5_add_97 : decode cX5_add 97 = .ok (.aload_n 0, 1) := by decide +kernel
theorem dX5_add_98 : decode cX5_add 98 = .ok (.getfield 10, 3) := by decide +kernel
theorem dX5_add_101 : decode cX5_add 101 = .ok (.aload_n 0, 1) := by decide +kernel
theorem dX5_add_102 : decode cX5_add 102 = .ok (.getfield 36, 3) := by decide +kernel
theorem dX5_add_105 : decode cX5_add 105 = .ok (.iload 5, 2) := by decide +kernel
theorem dX5_add_107 : decode cX5_add 107 = .ok (.invokestatic 57, 3) := by decide +kernel
theorem dX5_add_110 : decode cX5_add 110 = .ok (.aload_n 0, 1) := by decide +kernel
theorem dX5_add_111 : decode cX5_add 111 = .ok (.getfield 20, 3) := by decide +kernel
theorem dX5_add_114 : decode cX5_add 114 = .ok (.aload_n 1, 1) := by decide +kernel
theorem dX5_add_115 : decode cX5_add 115 = .ok (.getfield 45, 3) := by decide +kernel
theorem dX5_add_118 : decode cX5_add 118 = .ok (.dup2, 1) := by decide +kernel
theorem dX5_add_119 : decode cX5_add 119 = .ok (.iaload, 1) := by decide +kernel
theorem dX5_add_120 : decode cX5_add 120 = .ok (.iload 5, 2) := by decide +kernel
theorem dX5_add_122 : decode cX5_add 122 = .ok (.iadd, 1) := by decide +kernel
theorem dX5_add_123 : decode cX5_add 123 = .ok (.iastore, 1) := by decide +kernel
theorem dX5_add_124 : decode cX5_add 124 = .ok (.aload_n 0, 1) := by decide +kernel
theorem dX5_add_125 : decode cX5_add 125 = .ok (.dup, 1) := by decide +kernel
theorem dX5_add_126 : decode cX5_add 126 = .ok (.getfield 36, 3) := by decide +kernel
theorem dX5_add_129 : decode cX5_add 129 = .ok (.iload 5, 2) := by decide +kernel
theorem dX5_add_131 : decode cX5_add 131 = .ok (.iadd, 1) := by decide +kernel
theorem dX5_add_132 : decode cX5_add 132 = .ok (.putfield 36, 3) := by decide +kernel
theorem dX5_add_135 : decode cX5_add 135 = .ok (.aload_n 1, 1) := by decide +kernel
theorem dX5_add_136 : decode cX5_add 136 = .ok (.dup, 1) := by decide +kernel
theorem dX5_add_137 : decode cX5_add 137 = .ok (.getfield 63, 3) := by decide +kernel
theorem dX5_add_140 : decode cX5_add 140 = .ok (.iload 5, 2) := by decide +kernel
theorem dX5_add_142 : decode cX5_add 142 = .ok (.iadd, 1) := by decide +kernel
theorem dX5_add_143 : decode cX5_add 143 = .ok (.putfield 63, 3) := by decide +kernel
theorem dX5_add_146 : decode cX5_add 146 = .ok (.iload 5, 2) := by decide +kernel
theorem dX5_add_148 : decode cX5_add 148 = .ok (.ireturn, 1) := by decide +kernel
theorem dX5_piece_0 : decode cX5_piece 0 = .ok (.aload_n 0, 1) := by decide +kernel
theorem dX5_piece_1 : decode cX5_piece 1 = .ok (.getfield 26, 3) := by decide +kernel
theorem dX5_piece_4 : decode cX5_piece 4 = .ok (.aload_n 0, 1) := by decide +kernel
theorem dX5_piece_5 : decode cX5_piece 5 = .ok (.getfield 16, 3) := by decide +kernel
theorem dX5_piece_8 : decode cX5_piece 8 = .ok (.arraylength, 1) := by decide +kernel
theorem dX5_piece_9 : decode cX5_piece 9 = .ok (.if_icmp .ne 54, 3) := by decide +kernel
theorem dX5_piece_12 : decode cX5_piece 12 = .ok (.aload_n 0, 1) := by decide +kernel
theorem dX5_piece_13 : decode cX5_piece 13 = .ok (.aload_n 0, 1) := by decide +kernel
theorem dX5_piece_14 : decode cX5_piece 14 = .ok (.getfield 16, 3) := by decide +kernel
theorem dX5_piece_17 : decode cX5_piece 17 = .ok (.iconst 2, 1) := by decide +kernel
theorem dX5_piece_18 : decode cX5_piece 18 = .ok (.aload_n 0, 1) := by decide +kernel
theorem dX5_piece_19 : decode cX5_piece 19 = .ok (.getfield 26, 3) := by decide +kernel
theorem dX5_piece_22 : decode cX5_piece 22 = .ok (.imul, 1) := by decide +kernel
theorem dX5_piece_23 : decode cX5_piece 23 = .ok (.invokestatic 30, 3) := by decide +kernel
theorem dX5_piece_26 : decode cX5_piece 26 = .ok (.putfield 16, 3) := by decide +kernel
theorem dX5_piece_29 : decode cX5_piece 29 = .ok (.aload_n 0, 1) := by decide +kernel
theorem dX5_piece_30 : decode cX5_piece 30 = .ok (.aload_n 0, 1) := by decide +kernel
theorem dX5_piece_31 : decode cX5_piece 31 = .ok (.getfield 20, 3) := by decide +kernel
theorem dX5_piece_34 : decode cX5_piece 34 = .ok (.iconst 2, 1) := by decide +kernel
theorem dX5_piece_35 : decode cX5_piece 35 = .ok (.aload_n 0, 1) := by decide +kernel
theorem dX5_piece_36 : decode cX5_piece 36 = .ok (.getfield 26, 3) := by decide +kernel
theorem dX5_piece_39 : decode cX5_piece 39 = .ok (.imul, 1) := by decide +kernel
theorem dX5_piece_40 : decode cX5_piece 40 = .ok (.invokestatic 30, 3) := by decide +kernel
theorem dX5_piece_43 : decode cX5_piece 43 = .ok (.putfield 20, 3) := by decide +kernel
theorem dX5_piece_46 : decode cX5_piece 46 = .ok (.aload_n 0, 1) := by decide +kernel
theorem dX5_piece_47 : decode cX5_piece 47 = .ok (.aload_n 0, 1) := by decide +kernel
theorem dX5_piece_48 : decode cX5_piece 48 = .ok (.getfield 23, 3) := by decide +kernel
theorem dX5_piece_51 : decode cX5_piece 51 = .ok (.iconst 2, 1) := by decide +kernel
theorem dX5_piece_52 : decode cX5_piece 52 = .ok (.aload_n 0, 1) := by decide +kernel
theorem dX5_piece_53 : decode cX5_piece 53 = .ok (.getfield 26, 3) := by decide +kernel
theorem dX5_piece_56 : decode cX5_piece 56 = .ok (.imul, 1) := by decide +kernel
theorem dX5_piece_57 : decode cX5_piece 57 = .ok (.invokestatic 30, 3) := by decide +kernel
theorem dX5_piece_60 : decode cX5_piece 60 = .ok (.putfield 23, 3) := by decide +kernel
theorem dX5_piece_63 : decode cX5_piece 63 = .ok (.aload_n 0, 1) := by decide +kernel
theorem dX5_piece_64 : decode cX5_piece 64 = .ok (.getfield 16, 3) := by decide +kernel
theorem dX5_piece_67 : decode cX5_piece 67 = .ok (.aload_n 0, 1) := by decide +kernel
theorem dX5_piece_68 : decode cX5_piece 68 = .ok (.getfield 26, 3) := by decide +kernel
theorem dX5_piece_71 : decode cX5_piece 71 = .ok (.aload_n 0, 1) := by decide +kernel
theorem dX5_piece_72 : decode cX5_piece 72 = .ok (.getfield 36, 3) := by decide +kernel
theorem dX5_piece_75 : decode cX5_piece 75 = .ok (.iastore, 1) := by decide +kernel
theorem dX5_piece_76 : decode cX5_piece 76 = .ok (.aload_n 0, 1) := by decide +kernel
theorem dX5_piece_77 : decode cX5_piece 77 = .ok (.getfield 20, 3) := by decide +kernel
theorem dX5_piece_80 : decode cX5_piece 80 = .ok (.aload_n 0, 1) := by decide +kernel
theorem dX5_piece_81 : decode cX5_piece 81 = .ok (.getfield 26, 3) := by decide +kernel
theorem dX5_piece_84 : decode cX5_piece 84 = .ok (.iconst 0, 1) := by decide +kernel
theorem dX5_piece_85 : decode cX5_piece 85 = .ok (.iastore, 1) := by decide +kernel
theorem dX5_piece_86 : decode cX5_piece 86 = .ok (.aload_n 0, 1) := by decide +kernel
theorem dX5_piece_87 : decode cX5_piece 87 = .ok (.getfield 23, 3) := by decide +kernel
theorem dX5_piece_90 : decode cX5_piece 90 = .ok (.aload_n 0, 1) := by decide +kernel
theorem dX5_piece_91 : decode cX5_piece 91 = .ok (.getfield 26, 3) := by decide +kernel
theorem dX5_piece_94 : decode cX5_piece 94 = .ok (.iconst (-1), 1) := by decide +kernel
theorem dX5_piece_95 : decode cX5_piece 95 = .ok (.iastore, 1) := by decide +kernel
theorem dX5_piece_96 : decode cX5_piece 96 = .ok (.aload_n 0, 1) := by decide +kernel
theorem dX5_piece_97 : decode cX5_piece 97 = .ok (.dup, 1) := by decide +kernel
theorem dX5_piece_98 : decode cX5_piece 98 = .ok (.getfield 26, 3) := by decide +kernel
theorem dX5_piece_101 : decode cX5_piece 101 = .ok (.dup_x1, 1) := by decide +kernel
theorem dX5_piece_102 : decode cX5_piece 102 = .ok (.iconst 1, 1) := by decide +kernel
theorem dX5_piece_103 : decode cX5_piece 103 = .ok (.iadd, 1) := by decide +kernel
theorem dX5_piece_104 : decode cX5_piece 104 = .ok (.putfield 26, 3) := by decide +kernel
theorem dX5_piece_107 : decode cX5_piece 107 = .ok (.ireturn, 1) := by decide +kernel
theorem dX5_copy_0 : decode cX5_copy 0 = .ok (.aload_n 1, 1) := by decide +kernel
theorem dX5_copy_1 : decode cX5_copy 1 = .ok (.getfield 54, 3) := by decide +kernel
theorem dX5_copy_4 : decode cX5_copy 4 = .ok (.istore 5, 2) := by decide +kernel
theorem dX5_copy_6 : decode cX5_copy 6 = .ok (.iconst 0, 1) := by decide +kernel
theorem dX5_copy_7 : decode cX5_copy 7 = .ok (.istore 6, 2) := by decide +kernel
theorem dX5_copy_9 : decode cX5_copy 9 = .ok (.iconst 0, 1) := by decide +kernel
theorem dX5_copy_10 : decode cX5_copy 10 = .ok (.istore 7, 2) := by decide +kernel
theorem dX5_copy_12 : decode cX5_copy 12 = .ok (.iload 5, 2) := by decide +kernel
theorem dX5_copy_14 : decode cX5_copy 14 = .ok (.iconst (-1), 1) := by decide +kernel
theorem dX5_copy_15 : decode cX5_copy 15 = .ok (.if_icmp .eq 101, 3) := by decide +kernel
theorem dX5_copy_18 : decode cX5_copy 18 = .ok (.iload 7, 2) := by decide +kernel
theorem dX5_copy_20 : decode cX5_copy 20 = .ok (.iload 4, 2) := by decide +kernel
theorem dX5_copy_22 : decode cX5_copy 22 = .ok (.if_icmp .ge 94, 3) := by decide +kernel
theorem dX5_copy_25 : decode cX5_copy 25 = .ok (.iload_n 2, 1) := by decide +kernel
theorem dX5_copy_26 : decode cX5_copy 26 = .ok (.iload 7, 2) := by decide +kernel
theorem dX5_copy_28 : decode cX5_copy 28 = .ok (.iadd, 1) := by decide +kernel
theorem dX5_copy_29 : decode cX5_copy 29 = .ok (.iload 6, 2) := by decide +kernel
theorem dX5_copy_31 : decode cX5_copy 31 = .ok (.isub, 1) := by decide +kernel
theorem dX5_copy_32 : decode cX5_copy 32 = .ok (.iconst 0, 1) := by decide +kernel
theorem dX5_copy_33 : decode cX5_copy 33 = .ok (.invokestatic 66, 3) := by decide +kernel
theorem dX5_copy_36 : decode cX5_copy 36 = .ok (.istore 8, 2) := by decide +kernel
theorem dX5_copy_38 : decode cX5_copy 38 = .ok (.aload_n 0, 1) := by decide +kernel
theorem dX5_copy_39 : decode cX5_copy 39 = .ok (.getfield 20, 3) := by decide +kernel
theorem dX5_copy_42 : decode cX5_copy 42 = .ok (.iload 5, 2) := by decide +kernel
theorem dX5_copy_44 : decode cX5_copy 44 = .ok (.iaload, 1) := by decide +kernel
theorem dX5_copy_45 : decode cX5_copy 45 = .ok (.iload 8, 2) := by decide +kernel
theorem dX5_copy_47 : decode cX5_copy 47 = .ok (.isub, 1) := by decide +kernel
theorem dX5_copy_48 : decode cX5_copy 48 = .ok (.iload 4, 2) := by decide +kernel
theorem dX5_copy_50 : decode cX5_copy 50 = .ok (.iload 7, 2) := by decide +kernel
theorem dX5_copy_52 : decode cX5_copy 52 = .ok (.isub, 1) := by decide +kernel
theorem dX5_copy_53 : decode cX5_copy 53 = .ok (.invokestatic 39, 3) := by decide +kernel
theorem dX5_copy_56 : decode cX5_copy 56 = .ok (.istore 9, 2) := by decide +kernel
theorem dX5_copy_58 : decode cX5_copy 58 = .ok (.iload 9, 2) := by decide +kernel
theorem dX5_copy_60 : decode cX5_copy 60 = .ok (.ifCond .le 32, 3) := by decide +kernel
theorem dX5_copy_63 : decode cX5_copy 63 = .ok (.aload_n 0, 1) := by decide +kernel
theorem dX5_copy_64 : decode cX5_copy 64 = .ok (.getfield 10, 3) := by decide +kernel
theorem dX5_copy_67 : decode cX5_copy 67 = .ok (.aload_n 0, 1) := by decide +kernel
theorem dX5_copy_68 : decode cX5_copy 68 = .ok (.getfield 16, 3) := by decide +kernel
theorem dX5_copy_71 : decode cX5_copy 71 = .ok (.iload 5, 2) := by decide +kernel
theorem dX5_copy_73 : decode cX5_copy 73 = .ok (.iaload, 1) := by decide +kernel
theorem dX5_copy_74 : decode cX5_copy 74 = .ok (.iload 8, 2) := by decide +kernel
theorem dX5_copy_76 : decode cX5_copy 76 = .ok (.iadd, 1) := by decide +kernel
theorem dX5_copy_77 : decode cX5_copy 77 = .ok (.aload_n 3, 1) := by decide +kernel
theorem dX5_copy_78 : decode cX5_copy 78 = .ok (.iload 7, 2) := by decide +kernel
theorem dX5_copy_80 : decode cX5_copy 80 = .ok (.iload 9, 2) := by decide +kernel
theorem dX5_copy_82 : decode cX5_copy 82 = .ok (.invokestatic 57, 3) := by decide +kernel
theorem dX5_copy_85 : decode cX5_copy 85 = .ok (.iload 7, 2) := by decide +kernel
theorem dX5_copy_87 : decode cX5_copy 87 = .ok (.iload 9, 2) := by decide +kernel
theorem dX5_copy_89 : decode cX5_copy 89 = .ok (.iadd, 1) := by decide +kernel
theorem dX5_copy_90 : decode cX5_copy 90 = .ok (.istore 7, 2) := by decide +kernel
theorem dX5_copy_92 : decode cX5_copy 92 = .ok (.iload 6, 2) := by decide +kernel
theorem dX5_copy_94 : decode cX5_copy 94 = .ok (.aload_n 0, 1) := by decide +kernel
theorem dX5_copy_95 : decode cX5_copy 95 = .ok (.getfield 20, 3) := by decide +kernel
theorem dX5_copy_98 : decode cX5_copy 98 = .ok (.iload 5, 2) := by decide +kernel
theorem dX5_copy_100 : decode cX5_copy 100 = .ok (.iaload, 1) := by decide +kernel
theorem dX5_copy_101 : decode cX5_copy 101 = .ok (.iadd, 1) := by decide +kernel
theorem dX5_copy_102 : decode cX5_copy 102 = .ok (.istore 6, 2) := by decide +kernel
theorem dX5_copy_104 : decode cX5_copy 104 = .ok (.aload_n 0, 1) := by decide +kernel
theorem dX5_copy_105 : decode cX5_copy 105 = .ok (.getfield 23, 3) := by decide +kernel
theorem dX5_copy_108 : decode cX5_copy 108 = .ok (.iload 5, 2) := by decide +kernel
theorem dX5_copy_110 : decode cX5_copy 110 = .ok (.iaload, 1) := by decide +kernel
theorem dX5_copy_111 : decode cX5_copy 111 = .ok (.istore 5, 2) := by decide +kernel
theorem dX5_copy_113 : decode cX5_copy 113 = .ok (.goto (-101), 3) := by decide +kernel
theorem dX5_copy_116 : decode cX5_copy 116 = .ok (.return_, 1) := by decide +kernel
theorem dX6_init_0 : decode cX6_init 0 = .ok (.aload_n 0, 1) := by decide +kernel
theorem dX6_init_1 : decode cX6_init 1 = .ok (.invokespecial 3, 3) := by decide +kernel
theorem dX6_init_4 : decode cX6_init 4 = .ok (.aload_n 0, 1) := by decide +kernel
theorem dX6_init_5 : decode cX6_init 5 = .ok (.sipush 4096, 3) := by decide +kernel
theorem dX6_init_8 : decode cX6_init 8 = .ok (.newarray .byte, 2) := by decide +kernel
theorem dX6_init_10 : decode cX6_init 10 = .ok (.putfield 9, 3) := by decide +kernel
theorem dX6_init_13 : decode cX6_init 13 = .ok (.aload_n 0, 1) := by decide +kernel
theorem dX6_init_14 : decode cX6_init 14 = .ok (.bipush 64, 2) := by decide +kernel
theorem dX6_init_16 : decode cX6_init 16 = .ok (.newarray .long, 2) := by decide +kernel
theorem dX6_init_18 : decode cX6_init 18 = .ok (.putfield 15, 3) := by decide +kernel
theorem dX6_init_21 : decode cX6_init 21 = .ok (.aload_n 0, 1) := by decide +kernel
theorem dX6_init_22 : decode cX6_init 22 = .ok (.bipush 64, 2) := by decide +kernel
theorem dX6_init_24 : decode cX6_init 24 = .ok (.newarray .int, 2) := by decide +kernel
theorem dX6_init_26 : decode cX6_init 26 = .ok (.putfield 19, 3) := by decide +kernel
theorem dX6_init_29 : decode cX6_init 29 = .ok (.aload_n 0, 1) := by decide +kernel
theorem dX6_init_30 : decode cX6_init 30 = .ok (.bipush 64, 2) := by decide +kernel
theorem dX6_init_32 : decode cX6_init 32 = .ok (.newarray .int, 2) := by decide +kernel
theorem dX6_init_34 : decode cX6_init 34 = .ok (.putfield 23, 3) := by decide +kernel
theorem dX6_init_37 : decode cX6_init 37 = .ok (.aload_n 0, 1) := by decide +kernel
theorem dX6_init_38 : decode cX6_init 38 = .ok (.iconst (-1), 1) := by decide +kernel
theorem dX6_init_39 : decode cX6_init 39 = .ok (.putfield 26, 3) := by decide +kernel
theorem dX6_init_42 : decode cX6_init 42 = .ok (.return_, 1) := by decide +kernel
theorem dX6_take_0 : decode cX6_take 0 = .ok (.iconst 0, 1) := by decide +kernel
theorem dX6_take_1 : decode cX6_take 1 = .ok (.istore 5, 2) := by decide +kernel
theorem dX6_take_3 : decode cX6_take 3 = .ok (.iload 5, 2) := by decide +kernel
theorem dX6_take_5 : decode cX6_take 5 = .ok (.iload 4, 2) := by decide +kernel
theorem dX6_take_7 : decode cX6_take 7 = .ok (.if_icmp .ge 60, 3) := by decide +kernel
theorem dX6_take_10 : decode cX6_take 10 = .ok (.aload_n 2, 1) := by decide +kernel
theorem dX6_take_11 : decode cX6_take 11 = .ok (.iload_n 3, 1) := by decide +kernel
theorem dX6_take_12 : decode cX6_take 12 = .ok (.iload 5, 2) := by decide +kernel
theorem dX6_take_14 : decode cX6_take 14 = .ok (.iadd, 1) := by decide +kernel
theorem dX6_take_15 : decode cX6_take 15 = .ok (.aload_n 0, 1) := by decide +kernel
theorem dX6_take_16 : decode cX6_take 16 = .ok (.getfield 9, 3) := by decide +kernel
theorem dX6_take_19 : decode cX6_take 19 = .ok (.aload_n 1, 1) := by decide +kernel
theorem dX6_take_20 : decode cX6_take 20 = .ok (.getfield 45, 3) := by decide +kernel
theorem dX6_take_23 : decode cX6_take 23 = .ok (.bipush 64, 2) := by decide +kernel
theorem dX6_take_25 : decode cX6_take 25 = .ok (.imul, 1) := by decide +kernel
theorem dX6_take_26 : decode cX6_take 26 = .ok (.aload_n 1, 1) := by decide +kernel
theorem dX6_take_27 : decode cX6_take 27 = .ok (.getfield 66, 3) := by decide +kernel
theorem dX6_take_30 : decode cX6_take 30 = .ok (.bipush 64, 2) := by decide +kernel
theorem dX6_take_32 : decode cX6_take 32 = .ok (.irem, 1) := by decide +kernel
theorem dX6_take_33 : decode cX6_take 33 = .ok (.iadd, 1) := by decide +kernel
theorem dX6_take_34 : decode cX6_take 34 = .ok (.baload, 1) := by decide +kernel
theorem dX6_take_35 : decode cX6_take 35 = .ok (.bastore, 1) := by decide +kernel
theorem dX6_take_36 : decode cX6_take 36 = .ok (.aload_n 1, 1) := by decide +kernel
theorem dX6_take_37 : decode cX6_take 37 = .ok (.dup, 1) := by decide +kernel
theorem dX6_take_38 : decode cX6_take 38 = .ok (.getfield 66, 3) := by decide +kernel
theorem dX6_take_41 : decode cX6_take 41 = .ok (.iconst 1, 1) := by decide +kernel
theorem dX6_take_42 : decode cX6_take 42 = .ok (.iadd, 1) := by decide +kernel
theorem dX6_take_43 : decode cX6_take 43 = .ok (.putfield 66, 3) := by decide +kernel
theorem dX6_take_46 : decode cX6_take 46 = .ok (.aload_n 1, 1) := by decide +kernel
theorem dX6_take_47 : decode cX6_take 47 = .ok (.getfield 66, 3) := by decide +kernel
theorem dX6_take_50 : decode cX6_take 50 = .ok (.bipush 64, 2) := by decide +kernel
theorem dX6_take_52 : decode cX6_take 52 = .ok (.irem, 1) := by decide +kernel
theorem dX6_take_53 : decode cX6_take 53 = .ok (.ifCond .ne 8, 3) := by decide +kernel
theorem dX6_take_56 : decode cX6_take 56 = .ok (.aload_n 0, 1) := by decide +kernel
theorem dX6_take_57 : decode cX6_take 57 = .ok (.aload_n 1, 1) := by decide +kernel
theorem dX6_take_58 : decode cX6_take 58 = .ok (.invokevirtual 69, 3) := by decide +kernel
theorem dX6_take_61 : decode cX6_take 61 = .ok (.iinc 5 1, 3) := by decide +kernel
theorem dX6_take_64 : decode cX6_take 64 = .ok (.goto (-61), 3) := by decide +kernel
theorem dX6_take_67 : decode cX6_take 67 = .ok (.return_, 1) := by decide +kernel
theorem dX6_drop_0 : decode cX6_drop 0 = .ok (.aload_n 1, 1) := by decide +kernel
theorem dX6_drop_1 : decode cX6_drop 1 = .ok (.getfield 45, 3) := by decide +kernel
theorem dX6_drop_4 : decode cX6_drop 4 = .ok (.istore_n 2, 1) := by decide +kernel
theorem dX6_drop_5 : decode cX6_drop 5 = .ok (.aload_n 1, 1) := by decide +kernel
theorem dX6_drop_6 : decode cX6_drop 6 = .ok (.aload_n 0, 1) := by decide +kernel
theorem dX6_drop_7 : decode cX6_drop 7 = .ok (.getfield 23, 3) := by decide +kernel
theorem dX6_drop_10 : decode cX6_drop 10 = .ok (.iload_n 2, 1) := by decide +kernel
theorem dX6_drop_11 : decode cX6_drop 11 = .ok (.iaload, 1) := by decide +kernel
theorem dX6_drop_12 : decode cX6_drop 12 = .ok (.putfield 45, 3) := by decide +kernel
theorem dX6_drop_15 : decode cX6_drop 15 = .ok (.aload_n 0, 1) := by decide +kernel
theorem dX6_drop_16 : decode cX6_drop 16 = .ok (.getfield 23, 3) := by decide +kernel
theorem dX6_drop_19 : decode cX6_drop 19 = .ok (.iload_n 2, 1) := by decide +kernel
theorem dX6_drop_20 : decode cX6_drop 20 = .ok (.aload_n 0, 1) := by decide +kernel
theorem dX6_drop_21 : decode cX6_drop 21 = .ok (.getfield 26, 3) := by decide +kernel
theorem dX6_drop_24 : decode cX6_drop 24 = .ok (.iastore, 1) := by decide +kernel
theorem dX6_drop_25 : decode cX6_drop 25 = .ok (.aload_n 0, 1) := by decide +kernel
theorem dX6_drop_26 : decode cX6_drop 26 = .ok (.iload_n 2, 1) := by decide +kernel
theorem dX6_drop_27 : decode cX6_drop 27 = .ok (.putfield 26, 3) := by decide +kernel
theorem dX6_drop_30 : decode cX6_drop 30 = .ok (.return_, 1) := by decide +kernel
theorem dX6_put_0 : decode cX6_put 0 = .ok (.iconst (-1), 1) := by decide +kernel
theorem dX6_put_1 : decode cX6_put 1 = .ok (.istore 6, 2) := by decide +kernel
theorem dX6_put_3 : decode cX6_put 3 = .ok (.aload_n 1, 1) := by decide +kernel
theorem dX6_put_4 : decode cX6_put 4 = .ok (.getfield 54, 3) := by decide +kernel
theorem dX6_put_7 : decode cX6_put 7 = .ok (.iload_n 2, 1) := by decide +kernel
theorem dX6_put_8 : decode cX6_put 8 = .ok (.isub, 1) := by decide +kernel
theorem dX6_put_9 : decode cX6_put 9 = .ok (.iconst 0, 1) := by decide +kernel
theorem dX6_put_10 : decode cX6_put 10 = .ok (.invokestatic 57, 3) := by decide +kernel
theorem dX6_put_13 : decode cX6_put 13 = .ok (.istore 7, 2) := by decide +kernel
theorem dX6_put_15 : decode cX6_put 15 = .ok (.iload 7, 2) := by decide +kernel
theorem dX6_put_17 : decode cX6_put 17 = .ok (.iload 5, 2) := by decide +kernel
theorem dX6_put_19 : decode cX6_put 19 = .ok (.if_icmp .ge 111, 3) := by decide +kernel
theorem dX6_put_22 : decode cX6_put 22 = .ok (.iload_n 2, 1) := by decide +kernel
theorem dX6_put_23 : decode cX6_put 23 = .ok (.iload 7, 2) := by decide +kernel
theorem dX6_put_25 : decode cX6_put 25 = .ok (.iadd, 1) := by decide +kernel
theorem dX6_put_26 : decode cX6_put 26 = .ok (.istore 8, 2) := by decide +kernel
theorem dX6_put_28 : decode cX6_put 28 = .ok (.iload 6, 2) := by decide +kernel
theorem dX6_put_30 : decode cX6_put 30 = .ok (.iconst (-1), 1) := by decide +kernel
theorem dX6_put_31 : decode cX6_put 31 = .ok (.if_icmp .eq 18, 3) := by decide +kernel
theorem dX6_put_34 : decode cX6_put 34 = .ok (.aload_n 0, 1) := by decide +kernel
theorem dX6_put_35 : decode cX6_put 35 = .ok (.getfield 19, 3) := by decide +kernel
theorem dX6_put_38 : decode cX6_put 38 = .ok (.iload 6, 2) := by decide +kernel
theorem dX6_put_40 : decode cX6_put 40 = .ok (.iaload, 1) := by decide +kernel
theorem dX6_put_41 : decode cX6_put 41 = .ok (.iload 8, 2) := by decide +kernel
theorem dX6_put_43 : decode cX6_put 43 = .ok (.bipush 64, 2) := by decide +kernel
theorem dX6_put_45 : decode cX6_put 45 = .ok (.idiv, 1) := by decide +kernel
theorem dX6_put_46 : decode cX6_put 46 = .ok (.if_icmp .eq 15, 3) := by decide +kernel
theorem dX6_put_49 : decode cX6_put 49 = .ok (.aload_n 0, 1) := by decide +kernel
theorem dX6_put_50 : decode cX6_put 50 = .ok (.aload_n 1, 1) := by decide +kernel
theorem dX6_put_51 : decode cX6_put 51 = .ok (.iload 8, 2) := by decide +kernel
theorem dX6_put_53 : decode cX6_put 53 = .ok (.bipush 64, 2) := by decide +kernel
theorem dX6_put_55 : decode cX6_put 55 = .ok (.idiv, 1) := by decide +kernel
theorem dX6_put_56 : decode cX6_put 56 = .ok (.invokevirtual 62, 3) := by decide +kernel
theorem dX6_put_59 : decode cX6_put 59 = .ok (.istore 6, 2) := by decide +kernel
theorem dX6_put_61 : decode cX6_put 61 = .ok (.aload_n 0, 1) := by decide +kernel
theorem dX6_put_62 : decode cX6_put 62 = .ok (.getfield 15, 3) := by decide +kernel
theorem dX6_put_65 : decode cX6_put 65 = .ok (.iload 6, 2) := by decide +kernel
theorem dX6_put_67 : decode cX6_put 67 = .ok (.laload, 1) := by decide +kernel
theorem dX6_put_68 : decode cX6_put 68 = .ok (.iload 8, 2) := by decide +kernel
theorem dX6_put_70 : decode cX6_put 70 = .ok (.bipush 64, 2) := by decide +kernel
theorem dX6_put_72 : decode cX6_put 72 = .ok (.irem, 1) := by decide +kernel
theorem dX6_put_73 : decode cX6_put 73 = .ok (.lshr, 1) := by decide +kernel
theorem dX6_put_74 : decode cX6_put 74 = .ok (.lconst 1, 1) := by decide +kernel
theorem dX6_put_75 : decode cX6_put 75 = .ok (.land, 1) := by decide +kernel
theorem dX6_put_76 : decode cX6_put 76 = .ok (.lconst 1, 1) := by decide +kernel
theorem dX6_put_77 : decode cX6_put 77 = .ok (.lcmp, 1) := by decide +kernel
theorem dX6_put_78 : decode cX6_put 78 = .ok (.ifCond .ne 6, 3) := by decide +kernel
theorem dX6_put_81 : decode cX6_put 81 = .ok (.goto 43, 3) := by decide +kernel
theorem dX6_put_84 : decode cX6_put 84 = .ok (.aload_n 0, 1) := by decide +kernel
theorem dX6_put_85 : decode cX6_put 85 = .ok (.getfield 9, 3) := by decide +kernel
theorem dX6_put_88 : decode cX6_put 88 = .ok (.iload 6, 2) := by decide +kernel
theorem dX6_put_90 : decode cX6_put 90 = .ok (.bipush 64, 2) := by decide +kernel
theorem dX6_put_92 : decode cX6_put 92 = .ok (.imul, 1) := by decide +kernel
theorem dX6_put_93 : decode cX6_put 93 = .ok (.iload 8, 2) := by decide +kernel
theorem dX6_put_95 : decode cX6_put 95 = .ok (.bipush 64, 2) := by decide +kernel
theorem dX6_put_97 : decode cX6_put 97 = .ok (.irem, 1) := by decide +kernel
theorem dX6_put_98 : decode cX6_put 98 = .ok (.iadd, 1) := by decide +kernel
theorem dX6_put_99 : decode cX6_put 99 = .ok (.aload_n 3, 1) := by decide +kernel
theorem dX6_put_100 : decode cX6_put 100 = .ok (.iload 4, 2) := by decide +kernel
theorem dX6_put_102 : decode cX6_put 102 = .ok (.iload 7, 2) := by decide +kernel
theorem dX6_put_104 : decode cX6_put 104 = .ok (.iadd, 1) := by decide +kernel
theorem dX6_put_105 : decode cX6_put 105 = .ok (.baload, 1) := by decide +kernel
theorem dX6_put_106 : decode cX6_put 106 = .ok (.bastore, 1) := by decide +kernel
theorem dX6_put_107 : decode cX6_put 107 = .ok (.aload_n 0, 1) := by decide +kernel
theorem dX6_put_108 : decode cX6_put 108 = .ok (.getfield 15, 3) := by decide +kernel
theorem dX6_put_111 : decode cX6_put 111 = .ok (.iload 6, 2) := by decide +kernel
theorem dX6_put_113 : decode cX6_put 113 = .ok (.dup2, 1) := by decide +kernel
theorem dX6_put_114 : decode cX6_put 114 = .ok (.laload, 1) := by decide +kernel
theorem dX6_put_115 : decode cX6_put 115 = .ok (.lconst 1, 1) := by decide +kernel
theorem dX6_put_116 : decode cX6_put 116 = .ok (.iload 8, 2) := by decide +kernel
theorem dX6_put_118 : decode cX6_put 118 = .ok (.bipush 64, 2) := by decide +kernel
theorem dX6_put_120 : decode cX6_put 120 = .ok (.irem, 1) := by decide +kernel
theorem dX6_put_121 : decode cX6_put 121 = .ok (.lshl, 1) := by decide +kernel
theorem dX6_put_122 : decode cX6_put 122 = .ok (.lor, 1) := by decide +kernel
theorem dX6_put_123 : decode cX6_put 123 = .ok (.lastore, 1) := by decide +kernel
theorem dX6_put_124 : decode cX6_put 124 = .ok (.iinc 7 1, 3) := by decide +kernel
theorem dX6_put_127 : decode cX6_put 127 = .ok (.goto (-112), 3) := by decide +kernel
theorem dX6_put_130 : decode cX6_put 130 = .ok (.aload_n 1, 1) := by decide +kernel
theorem dX6_put_131 : decode cX6_put 131 = .ok (.getfield 45, 3) := by decide +kernel
theorem dX6_put_134 : decode cX6_put 134 = .ok (.istore 6, 2) := by decide +kernel
theorem dX6_put_136 : decode cX6_put 136 = .ok (.iload 6, 2) := by decide +kernel
theorem dX6_put_138 : decode cX6_put 138 = .ok (.iconst (-1), 1) := by decide +kernel
theorem dX6_put_139 : decode cX6_put 139 = .ok (.if_icmp .eq 88, 3) := by decide +kernel
theorem dX6_put_142 : decode cX6_put 142 = .ok (.aload_n 0, 1) := by decide +kernel
theorem dX6_put_143 : decode cX6_put 143 = .ok (.getfield 19, 3) := by decide +kernel
theorem dX6_put_146 : decode cX6_put 146 = .ok (.iload 6, 2) := by decide +kernel
theorem dX6_put_148 : decode cX6_put 148 = .ok (.iaload, 1) := by decide +kernel
theorem dX6_put_149 : decode cX6_put 149 = .ok (.aload_n 1, 1) := by decide +kernel
theorem dX6_put_150 : decode cX6_put 150 = .ok (.getfield 54, 3) := by decide +kernel
theorem dX6_put_153 : decode cX6_put 153 = .ok (.bipush 64, 2) := by decide +kernel
theorem dX6_put_155 : decode cX6_put 155 = .ok (.idiv, 1) := by decide +kernel
theorem dX6_put_156 : decode cX6_put 156 = .ok (.if_icmp .ne 38, 3) := by decide +kernel
theorem dX6_put_159 : decode cX6_put 159 = .ok (.aload_n 0, 1) := by decide +kernel
theorem dX6_put_160 : decode cX6_put 160 = .ok (.getfield 15, 3) := by decide +kernel
theorem dX6_put_163 : decode cX6_put 163 = .ok (.iload 6, 2) := by decide +kernel
theorem dX6_put_165 : decode cX6_put 165 = .ok (.laload, 1) := by decide +kernel
theorem dX6_put_166 : decode cX6_put 166 = .ok (.aload_n 1, 1) := by decide +kernel
theorem dX6_put_167 : decode cX6_put 167 = .ok (.getfield 54, 3) := by decide +kernel
theorem dX6_put_170 : decode cX6_put 170 = .ok (.bipush 64, 2) := by decide +kernel
theorem dX6_put_172 : decode cX6_put 172 = .ok (.irem, 1) := by decide +kernel
theorem dX6_put_173 : decode cX6_put 173 = .ok (.lshr, 1) := by decide +kernel
theorem dX6_put_174 : decode cX6_put 174 = .ok (.lconst 1, 1) := by decide +kernel
theorem dX6_put_175 : decode cX6_put 175 = .ok (.land, 1) := by decide +kernel
theorem dX6_put_176 : decode cX6_put 176 = .ok (.lconst 1, 1) := by decide +kernel
theorem dX6_put_177 : decode cX6_put 177 = .ok (.lcmp, 1) := by decide +kernel
theorem dX6_put_178 : decode cX6_put 178 = .ok (.ifCond .ne 16, 3) := by decide +kernel
theorem dX6_put_181 : decode cX6_put 181 = .ok (.aload_n 1, 1) := by decide +kernel
theorem dX6_put_182 : decode cX6_put 182 = .ok (.dup, 1) := by decide +kernel
theorem dX6_put_183 : decode cX6_put 183 = .ok (.getfield 54, 3) := by decide +kernel
theorem dX6_put_186 : decode cX6_put 186 = .ok (.iconst 1, 1) := by decide +kernel
theorem dX6_put_187 : decode cX6_put 187 = .ok (.iadd, 1) := by decide +kernel
theorem dX6_put_188 : decode cX6_put 188 = .ok (.putfield 54, 3) := by decide +kernel
theorem dX6_put_191 : decode cX6_put 191 = .ok (.goto (-49), 3) := by decide +kernel
theorem dX6_put_194 : decode cX6_put 194 = .ok (.aload_n 0, 1) := by decide +kernel
theorem dX6_put_195 : decode cX6_put 195 = .ok (.getfield 19, 3) := by decide +kernel
theorem dX6_put_198 : decode cX6_put 198 = .ok (.iload 6, 2) := by decide +kernel
theorem dX6_put_200 : decode cX6_put 200 = .ok (.iaload, 1) := by decide +kernel
theorem dX6_put_201 : decode cX6_put 201 = .ok (.aload_n 1, 1) := by decide +kernel
theorem dX6_put_202 : decode cX6_put 202 = .ok (.getfield 54, 3) := by decide +kernel
theorem dX6_put_205 : decode cX6_put 205 = .ok (.bipush 64, 2) := by decide +kernel
theorem dX6_put_207 : decode cX6_put 207 = .ok (.idiv, 1) := by decide +kernel
theorem dX6_put_208 : decode cX6_put 208 = .ok (.if_icmp .ge 13, 3) := by decide +kernel
theorem dX6_put_211 : decode cX6_put 211 = .ok (.aload_n 0, 1) := by decide +kernel
theorem dX6_put_212 : decode cX6_put 212 = .ok (.getfield 23, 3) := by decide +kernel
theorem dX6_put_215 : decode cX6_put 215 = .ok (.iload 6, 2) := by decide +kernel
theorem dX6_put_217 : decode cX6_put 217 = .ok (.iaload, 1) := by decide +kernel
theorem dX6_put_218 : decode cX6_put 218 = .ok (.goto 4, 3) := by decide +kernel
theorem dX6_put_221 : decode cX6_put 221 = .ok (.iconst (-1), 1) := by decide +kernel
theorem dX6_put_222 : decode cX6_put 222 = .ok (.istore 6, 2) := by decide +kernel
theorem dX6_put_224 : decode cX6_put 224 = .ok (.goto (-88), 3) := by decide +kernel
theorem dX6_put_227 : decode cX6_put 227 = .ok (.return_, 1) := by decide +kernel
theorem dX6_block_0 : decode cX6_block 0 = .ok (.iconst (-1), 1) := by decide +kernel
theorem dX6_block_1 : decode cX6_block 1 = .ok (.istore_n 3, 1) := by decide +kernel
theorem dX6_block_2 : decode cX6_block 2 = .ok (.aload_n 1, 1) := by decide +kernel
theorem dX6_block_3 : decode cX6_block 3 = .ok (.getfield 45, 3) := by decide +kernel
theorem dX6_block_6 : decode cX6_block 6 = .ok (.istore 4, 2) := by decide +kernel
theorem dX6_block_8 : decode cX6_block 8 = .ok (.iload 4, 2) := by decide +kernel
theorem dX6_block_10 : decode cX6_block 10 = .ok (.iconst (-1), 1) := by decide +kernel
theorem dX6_block_11 : decode cX6_block 11 = .ok (.if_icmp .eq 29, 3) := by decide +kernel
theorem dX6_block_14 : decode cX6_block 14 = .ok (.aload_n 0, 1) := by decide +kernel
theorem dX6_block_15 : decode cX6_block 15 = .ok (.getfield 19, 3) := by decide +kernel
theorem dX6_block_18 : decode cX6_block 18 = .ok (.iload 4, 2) := by decide +kernel
theorem dX6_block_20 : decode cX6_block 20 = .ok (.iaload, 1) := by decide +kernel
theorem dX6_block_21 : decode cX6_block 21 = .ok (.iload_n 2, 1) := by decide +kernel
theorem dX6_block_22 : decode cX6_block 22 = .ok (.if_icmp .ge 18, 3) := by decide +kernel
theorem dX6_block_25 : decode cX6_block 25 = .ok (.iload 4, 2) := by decide +kernel
theorem dX6_block_27 : decode cX6_block 27 = .ok (.istore_n 3, 1) := by decide +kernel
theorem dX6_block_28 : decode cX6_block 28 = .ok (.aload_n 0, 1) := by decide +kernel
theorem dX6_block_29 : decode cX6_block 29 = .ok (.getfield 23, 3) := by decide +kernel
theorem dX6_block_32 : decode cX6_block 32 = .ok (.iload 4, 2) := by decide +kernel
theorem dX6_block_34 : decode cX6_block 34 = .ok (.iaload, 1) := by decide +kernel
theorem dX6_block_35 : decode cX6_block 35 = .ok (.istore 4, 2) := by decide +kernel
theorem dX6_block_37 : decode cX6_block 37 = .ok (.goto (-29), 3) := by decide +kernel
theorem dX6_block_40 : decode cX6_block 40 = .ok (.iload 4, 2) := by decide +kernel
theorem dX6_block_42 : decode cX6_block 42 = .ok (.iconst (-1), 1) := by decide +kernel
theorem dX6_block_43 : decode cX6_block 43 = .ok (.if_icmp .eq 17, 3) := by decide +kernel
theorem dX6_block_46 : decode cX6_block 46 = .ok (.aload_n 0, 1) := by decide +kernel
theorem dX6_block_47 : decode cX6_block 47 = .ok (.getfield 19, 3) := by decide +kernel
theorem dX6_block_50 : decode cX6_block 50 = .ok (.iload 4, 2) := by decide +kernel
theorem dX6_block_52 : decode cX6_block 52 = .ok (.iaload, 1) := by decide +kernel
theorem dX6_block_53 : decode cX6_block 53 = .ok (.iload_n 2, 1) := by decide +kernel
theorem dX6_block_54 : decode cX6_block 54 = .ok (.if_icmp .ne 6, 3) := by decide +kernel
theorem dX6_block_57 : decode cX6_block 57 = .ok (.iload 4, 2) := by decide +kernel
theorem dX6_block_59 : decode cX6_block 59 = .ok (.ireturn, 1) := by decide +kernel
theorem dX6_block_60 : decode cX6_block 60 = .ok (.aload_n 0, 1) := by decide +kernel
theorem dX6_block_61 : decode cX6_block 61 = .ok (.iload_n 2, 1) := by decide +kernel
theorem dX6_block_62 : decode cX6_block 62 = .ok (.iload 4, 2) := by decide +kernel
theorem dX6_block_64 : decode cX6_block 64 = .ok (.invokevirtual 50, 3) := by decide +kernel
theorem dX6_block_67 : decode cX6_block 67 = .ok (.istore 5, 2) := by decide +kernel
theorem dX6_block_69 : decode cX6_block 69 = .ok (.iload_n 3, 1) := by decide +kernel
theorem dX6_block_70 : decode cX6_block 70 = .ok (.iconst (-1), 1) := by decide +kernel
theorem dX6_block_71 : decode cX6_block 71 = .ok (.if_icmp .ne 12, 3) := by decide +kernel
theorem dX6_block_74 : decode cX6_block 74 = .ok (.aload_n 1, 1) := by decide +kernel
theorem dX6_block_75 : decode cX6_block 75 = .ok (.iload 5, 2) := by decide +kernel
theorem dX6_block_77 : decode cX6_block 77 = .ok (.putfield 45, 3) := by decide +kernel
theorem dX6_block_80 : decode cX6_block 80 = .ok (.goto 11, 3) := by decide +kernel
theorem dX6_block_83 : decode cX6_block 83 = .ok (.aload_n 0, 1) := by decide +kernel
theorem dX6_block_84 : decode cX6_block 84 = .ok (.getfield 23, 3) := by decide +kernel
theorem dX6_block_87 : decode cX6_block 87 = .ok (.iload_n 3, 1) := by decide +kernel
theorem dX6_block_88 : decode cX6_block 88 = .ok (.iload 5, 2) := by decide +kernel
theorem dX6_block_90 : decode cX6_block 90 = .ok (.iastore, 1) := by decide +kernel
theorem dX6_block_91 : decode cX6_block 91 = .ok (.iload 5, 2) := by decide +kernel
theorem dX6_block_93 : decode cX6_block 93 = .ok (.ireturn, 1) := by decide +kernel
theorem dX6_make_0 : decode cX6_make 0 = .ok (.aload_n 0, 1) := by decide +kernel
theorem dX6_make_1 : decode cX6_make 1 = .ok (.getfield 26, 3) := by decide +kernel
theorem dX6_make_4 : decode cX6_make 4 = .ok (.istore_n 3, 1) := by decide +kernel
theorem dX6_make_5 : decode cX6_make 5 = .ok (.iload_n 3, 1) := by decide +kernel
theorem dX6_make_6 : decode cX6_make 6 = .ok (.iconst (-1), 1) := by decide +kernel
theorem dX6_make_7 : decode cX6_make 7 = .ok (.if_icmp .eq 16, 3) := by decide +kernel
theorem dX6_make_10 : decode cX6_make 10 = .ok (.aload_n 0, 1) := by decide +kernel
theorem dX6_make_11 : decode cX6_make 11 = .ok (.aload_n 0, 1) := by decide +kernel
theorem dX6_make_12 : decode cX6_make 12 = .ok (.getfield 23, 3) := by decide +kernel
theorem dX6_make_15 : decode cX6_make 15 = .ok (.iload_n 3, 1) := by decide +kernel
theorem dX6_make_16 : decode cX6_make 16 = .ok (.iaload, 1) := by decide +kernel
theorem dX6_make_17 : decode cX6_make 17 = .ok (.putfield 26, 3) := by decide +kernel
theorem dX6_make_20 : decode cX6_make 20 = .ok (.goto 98, 3) := by decide +kernel
theorem dX6_make_23 : decode cX6_make 23 = .ok (.aload_n 0, 1) := by decide +kernel
theorem dX6_make_24 : decode cX6_make 24 = .ok (.getfield 30, 3) := by decide +kernel
theorem dX6_make_27 : decode cX6_make 27 = .ok (.aload_n 0, 1) := by decide +kernel
theorem dX6_make_28 : decode cX6_make 28 = .ok (.getfield 15, 3) := by decide +kernel
theorem dX6_make_31 : decode cX6_make 31 = .ok (.arraylength, 1) := by decide +kernel
theorem dX6_make_32 : decode cX6_make 32 = .ok (.if_icmp .ne 74, 3) := by decide +kernel
theorem dX6_make_35 : decode cX6_make 35 = .ok (.aload_n 0, 1) := by decide +kernel
theorem dX6_make_36 : decode cX6_make 36 = .ok (.aload_n 0, 1) := by decide +kernel
theorem dX6_make_37 : decode cX6_make 37 = .ok (.getfield 9, 3) := by decide +kernel
theorem dX6_make_40 : decode cX6_make 40 = .ok (.iconst 2, 1) := by decide +kernel
theorem dX6_make_41 : decode cX6_make 41 = .ok (.aload_n 0, 1) := by decide +kernel
theorem dX6_make_42 : decode cX6_make 42 = .ok (.getfield 30, 3) := by decide +kernel
theorem dX6_make_45 : decode cX6_make 45 = .ok (.imul, 1) := by decide +kernel
theorem dX6_make_46 : decode cX6_make 46 = .ok (.bipush 64, 2) := by decide +kernel
theorem dX6_make_48 : decode cX6_make 48 = .ok (.imul, 1) := by decide +kernel
theorem dX6_make_49 : decode cX6_make 49 = .ok (.invokestatic 33, 3) := by decide +kernel
theorem dX6_make_52 : decode cX6_make 52 = .ok (.putfield 9, 3) := by decide +kernel
theorem dX6_make_55 : decode cX6_make 55 = .ok (.aload_n 0, 1) := by decide +kernel
theorem dX6_make_56 : decode cX6_make 56 = .ok (.aload_n 0, 1) := by decide +kernel
theorem dX6_make_57 : decode cX6_make 57 = .ok (.getfield 15, 3) := by decide +kernel
theorem dX6_make_60 : decode cX6_make 60 = .ok (.iconst 2, 1) := by decide +kernel
theorem dX6_make_61 : decode cX6_make 61 = .ok (.aload_n 0, 1) := by decide +kernel
theorem dX6_make_62 : decode cX6_make 62 = .ok (.getfield 30, 3) := by decide +kernel
theorem dX6_make_65 : decode cX6_make 65 = .ok (.imul, 1) := by decide +kernel
theorem dX6_make_66 : decode cX6_make 66 = .ok (.invokestatic 39, 3) := by decide +kernel
theorem dX6_make_69 : decode cX6_make 69 = .ok (.putfield 15, 3) := by decide +kernel
theorem dX6_make_72 : decode cX6_make 72 = .ok (.aload_n 0, 1) := by decide +kernel
theorem dX6_make_73 : decode cX6_make 73 = .ok (.aload_n 0, 1) := by decide +kernel
theorem dX6_make_74 : decode cX6_make 74 = .ok (.getfield 19, 3) := by decide +kernel
theorem dX6_make_77 : decode cX6_make 77 = .ok (.iconst 2, 1) := by decide +kernel
theorem dX6_make_78 : decode cX6_make 78 = .ok (.aload_n 0, 1) := by decide +kernel
theorem dX6_make_79 : decode cX6_make 79 = .ok (.getfield 30, 3) := by decide +kernel
theorem dX6_make_82 : decode cX6_make 82 = .ok (.imul, 1) := by decide +kernel
theorem dX6_make_83 : decode cX6_make 83 = .ok (.invokestatic 42, 3) := by decide +kernel
theorem dX6_make_86 : decode cX6_make 86 = .ok (.putfield 19, 3) := by decide +kernel
theorem dX6_make_89 : decode cX6_make 89 = .ok (.aload_n 0, 1) := by decide +kernel
theorem dX6_make_90 : decode cX6_make 90 = .ok (.aload_n 0, 1) := by decide +kernel
theorem dX6_make_91 : decode cX6_make 91 = .ok (.getfield 23, 3) := by decide +kernel
theorem dX6_make_94 : decode cX6_make 94 = .ok (.iconst 2, 1) := by decide +kernel
theorem dX6_make_95 : decode cX6_make 95 = .ok (.aload_n 0, 1) := by decide +kernel
theorem dX6_make_96 : decode cX6_make 96 = .ok (.getfield 30, 3) := by decide +kernel
theorem dX6_make_99 : decode cX6_make 99 = .ok (.imul, 1) := by decide +kernel
theorem dX6_make_100 : decode cX6_make 100 = .ok (.invokestatic 42, 3) := by decide +kernel
theorem dX6_make_103 : decode cX6_make 103 = .ok (.putfield 23, 3) := by decide +kernel
theorem dX6_make_106 : decode cX6_make 106 = .ok (.aload_n 0, 1) := by decide +kernel
theorem dX6_make_107 : decode cX6_make 107 = .ok (.dup, 1) := by decide +kernel
theorem dX6_make_108 : decode cX6_make 108 = .ok (.getfield 30, 3) := by decide +kernel
theorem dX6_make_111 : decode cX6_make 111 = .ok (.dup_x1, 1) := by decide +kernel
theorem dX6_make_112 : decode cX6_make 112 = .ok (.iconst 1, 1) := by decide +kernel
theorem dX6_make_113 : decode cX6_make 113 = .ok (.iadd, 1) := by decide +kernel
theorem dX6_make_114 : decode cX6_make 114 = .ok (.putfield 30, 3) := by decide +kernel
theorem dX6_make_117 : decode cX6_make 117 = .ok (.istore_n 3, 1) := by decide +kernel
theorem dX6_make_118 : decode cX6_make 118 = .ok (.aload_n 0, 1) := by decide +kernel
theorem dX6_make_119 : decode cX6_make 119 = .ok (.getfield 15, 3) := by decide +kernel
theorem dX6_make_122 : decode cX6_make 122 = .ok (.iload_n 3, 1) := by decide +kernel
theorem dX6_make_123 : decode cX6_make 123 = .ok (.lconst 0, 1) := by decide +kernel
theorem dX6_make_124 : decode cX6_make 124 = .ok (.lastore, 1) := by decide +kernel
theorem dX6_make_125 : decode cX6_make 125 = .ok (.aload_n 0, 1) := by decide +kernel
theorem dX6_make_126 : decode cX6_make 126 = .ok (.getfield 19, 3) := by decide +kernel
theorem dX6_make_129 : decode cX6_make 129 = .ok (.iload_n 3, 1) := by decide +kernel
theorem dX6_make_130 : decode cX6_make 130 = .ok (.iload_n 1, 1) := by decide +kernel
theorem dX6_make_131 : decode cX6_make 131 = .ok (.iastore, 1) := by decide +kernel
theorem dX6_make_132 : decode cX6_make 132 = .ok (.aload_n 0, 1) := by decide +kernel
theorem dX6_make_133 : decode cX6_make 133 = .ok (.getfield 23, 3) := by decide +kernel
theorem dX6_make_136 : decode cX6_make 136 = .ok (.iload_n 3, 1) := by decide +kernel
theorem dX6_make_137 : decode cX6_make 137 = .ok (.iload_n 2, 1) := by decide +kernel
theorem dX6_make_138 : decode cX6_make 138 = .ok (.iastore, 1) := by decide +kernel
theorem dX6_make_139 : decode cX6_make 139 = .ok (.iload_n 3, 1) := by decide +kernel
theorem dX6_make_140 : decode cX6_make 140 = .ok (.ireturn, 1) := by decide +kernel
theorem dX6_clear_0 : decode cX6_clear 0 = .ok (.aload_n 1, 1) := by decide +kernel
theorem dX6_clear_1 : decode cX6_clear 1 = .ok (.getfield 45, 3) := by decide +kernel
theorem dX6_clear_4 : decode cX6_clear 4 = .ok (.iconst (-1), 1) := by decide +kernel
theorem dX6_clear_5 : decode cX6_clear 5 = .ok (.if_icmp .eq 11, 3) := by decide +kernel
theorem dX6_clear_8 : decode cX6_clear 8 = .ok (.aload_n 0, 1) := by decide +kernel
theorem dX6_clear_9 : decode cX6_clear 9 = .ok (.aload_n 1, 1) := by decide +kernel
theorem dX6_clear_10 : decode cX6_clear 10 = .ok (.invokevirtual 69, 3) := by decide +kernel
theorem dX6_clear_13 : decode cX6_clear 13 = .ok (.goto (-13), 3) := by decide +kernel
theorem dX6_clear_16 : decode cX6_clear 16 = .ok (.return_, 1) := by decide +kernel
theorem dX7_init_0 : decode cX7_init 0 = .ok (.aload_n 0, 1) := by decide +kernel
theorem dX7_init_1 : decode cX7_init 1 = .ok (.invokespecial 3, 3) := by decide +kernel
theorem dX7_init_4 : decode cX7_init 4 = .ok (.aload_n 0, 1) := by decide +kernel
theorem dX7_init_5 : decode cX7_init 5 = .ok (.sipush 1200, 3) := by decide +kernel
theorem dX7_init_8 : decode cX7_init 8 = .ok (.newarray .byte, 2) := by decide +kernel
theorem dX7_init_10 : decode cX7_init 10 = .ok (.putfield 9, 3) := by decide +kernel
theorem dX7_init_13 : decode cX7_init 13 = .ok (.return_, 1) := by decide +kernel
theorem dX9_init_0 : decode cX9_init 0 = .ok (.aload_n 0, 1) := by decide +kernel
theorem dX9_init_1 : decode cX9_init 1 = .ok (.invokespecial 3, 3) := by decide +kernel
theorem dX9_init_4 : decode cX9_init 4 = .ok (.aload_n 0, 1) := by decide +kernel
theorem dX9_init_5 : decode cX9_init 5 = .ok (.iconst (-1), 1) := by decide +kernel
theorem dX9_init_6 : decode cX9_init 6 = .ok (.putfield 9, 3) := by decide +kernel
theorem dX9_init_9 : decode cX9_init 9 = .ok (.aload_n 0, 1) := by decide +kernel
theorem dX9_init_10 : decode cX9_init 10 = .ok (.iconst (-1), 1) := by decide +kernel
theorem dX9_init_11 : decode cX9_init 11 = .ok (.putfield 15, 3) := by decide +kernel
theorem dX9_init_14 : decode cX9_init 14 = .ok (.aload_n 0, 1) := by decide +kernel
theorem dX9_init_15 : decode cX9_init 15 = .ok (.iconst (-1), 1) := by decide +kernel
theorem dX9_init_16 : decode cX9_init 16 = .ok (.putfield 18, 3) := by decide +kernel
theorem dX9_init_19 : decode cX9_init 19 = .ok (.aload_n 0, 1) := by decide +kernel
theorem dX9_init_20 : decode cX9_init 20 = .ok (.iconst (-1), 1) := by decide +kernel
theorem dX9_init_21 : decode cX9_init 21 = .ok (.putfield 21, 3) := by decide +kernel
theorem dX9_init_24 : decode cX9_init 24 = .ok (.aload_n 0, 1) := by decide +kernel
theorem dX9_init_25 : decode cX9_init 25 = .ok (.ldc2_w 24, 3) := by decide +kernel
theorem dX9_init_28 : decode cX9_init 28 = .ok (.putfield 26, 3) := by decide +kernel
theorem dX9_init_31 : decode cX9_init 31 = .ok (.aload_n 0, 1) := by decide +kernel
theorem dX9_init_32 : decode cX9_init 32 = .ok (.lload_n 1, 1) := by decide +kernel
theorem dX9_init_33 : decode cX9_init 33 = .ok (.putfield 30, 3) := by decide +kernel
theorem dX9_init_36 : decode cX9_init 36 = .ok (.return_, 1) := by decide +kernel
theorem dX9_isLive_0 : decode cX9_isLive 0 = .ok (.aload_n 0, 1) := by decide +kernel
theorem dX9_isLive_1 : decode cX9_isLive 1 = .ok (.getfield 33, 3) := by decide +kernel
theorem dX9_isLive_4 : decode cX9_isLive 4 = .ok (.ifCond .eq 11, 3) := by decide +kernel
theorem dX9_isLive_7 : decode cX9_isLive 7 = .ok (.aload_n 0, 1) := by decide +kernel
theorem dX9_isLive_8 : decode cX9_isLive 8 = .ok (.getfield 33, 3) := by decide +kernel
theorem dX9_isLive_11 : decode cX9_isLive 11 = .ok (.iconst 1, 1) := by decide +kernel
theorem dX9_isLive_12 : decode cX9_isLive 12 = .ok (.if_icmp .ne 7, 3) := by decide +kernel
theorem dX9_isLive_15 : decode cX9_isLive 15 = .ok (.iconst 1, 1) := by decide +kernel
theorem dX9_isLive_16 : decode cX9_isLive 16 = .ok (.goto 4, 3) := by decide +kernel
theorem dX9_isLive_19 : decode cX9_isLive 19 = .ok (.iconst 0, 1) := by decide +kernel
theorem dX9_isLive_20 : decode cX9_isLive 20 = .ok (.ireturn, 1) := by decide +kernel
theorem dX9_reset_0 : decode cX9_reset 0 = .ok (.aload_n 0, 1) := by decide +kernel
theorem dX9_reset_1 : decode cX9_reset 1 = .ok (.iconst 3, 1) := by decide +kernel
theorem dX9_reset_2 : decode cX9_reset 2 = .ok (.putfield 33, 3) := by decide +kernel
theorem dX9_reset_5 : decode cX9_reset 5 = .ok (.aload_n 0, 1) := by decide +kernel
theorem dX9_reset_6 : decode cX9_reset 6 = .ok (.lload_n 1, 1) := by decide +kernel
theorem dX9_reset_7 : decode cX9_reset 7 = .ok (.putfield 36, 3) := by decide +kernel
theorem dX9_reset_10 : decode cX9_reset 10 = .ok (.aload_n 0, 1) := by decide +kernel
theorem dX9_reset_11 : decode cX9_reset 11 = .ok (.iconst 1, 1) := by decide +kernel
theorem dX9_reset_12 : decode cX9_reset 12 = .ok (.putfield 39, 3) := by decide +kernel
theorem dX9_reset_15 : decode cX9_reset 15 = .ok (.return_, 1) := by decide +kernel
theorem dX9_isOver_0 : decode cX9_isOver 0 = .ok (.aload_n 0, 1) := by decide +kernel
theorem dX9_isOver_1 : decode cX9_isOver 1 = .ok (.getfield 33, 3) := by decide +kernel
theorem dX9_isOver_4 : decode cX9_isOver 4 = .ok (.iconst 2, 1) := by decide +kernel
theorem dX9_isOver_5 : decode cX9_isOver 5 = .ok (.if_icmp .eq 11, 3) := by decide +kernel
theorem dX9_isOver_8 : decode cX9_isOver 8 = .ok (.aload_n 0, 1) := by decide +kernel
theorem dX9_isOver_9 : decode cX9_isOver 9 = .ok (.getfield 33, 3) := by decide +kernel
theorem dX9_isOver_12 : decode cX9_isOver 12 = .ok (.iconst 4, 1) := by decide +kernel
theorem dX9_isOver_13 : decode cX9_isOver 13 = .ok (.if_icmp .ne 7, 3) := by decide +kernel
theorem dX9_isOver_16 : decode cX9_isOver 16 = .ok (.iconst 1, 1) := by decide +kernel
theorem dX9_isOver_17 : decode cX9_isOver 17 = .ok (.goto 4, 3) := by decide +kernel
theorem dX9_isOver_20 : decode cX9_isOver 20 = .ok (.iconst 0, 1) := by decide +kernel
theorem dX9_isOver_21 : decode cX9_isOver 21 = .ok (.ireturn, 1) := by decide +kernel
theorem dX10_init_0 : decode cX10_init 0 = .ok (.aload_n 0, 1) := by decide +kernel
theorem dX10_init_1 : decode cX10_init 1 = .ok (.invokespecial 3, 3) := by decide +kernel
theorem dX10_init_4 : decode cX10_init 4 = .ok (.aload_n 0, 1) := by decide +kernel
theorem dX10_init_5 : decode cX10_init 5 = .ok (.iconst (-1), 1) := by decide +kernel
theorem dX10_init_6 : decode cX10_init 6 = .ok (.putfield 9, 3) := by decide +kernel
theorem dX10_init_9 : decode cX10_init 9 = .ok (.aload_n 0, 1) := by decide +kernel
theorem dX10_init_10 : decode cX10_init 10 = .ok (.iconst (-1), 1) := by decide +kernel
theorem dX10_init_11 : decode cX10_init 11 = .ok (.putfield 15, 3) := by decide +kernel
theorem dX10_init_14 : decode cX10_init 14 = .ok (.aload_n 0, 1) := by decide +kernel
theorem dX10_init_15 : decode cX10_init 15 = .ok (.iload_n 1, 1) := by decide +kernel
theorem dX10_init_16 : decode cX10_init 16 = .ok (.putfield 18, 3) := by decide +kernel
theorem dX10_init_19 : decode cX10_init 19 = .ok (.aload_n 0, 1) := by decide +kernel
theorem dX10_init_20 : decode cX10_init 20 = .ok (.iload_n 1, 1) := by decide +kernel
theorem dX10_init_21 : decode cX10_init 21 = .ok (.putfield 21, 3) := by decide +kernel
theorem dX10_init_24 : decode cX10_init 24 = .ok (.return_, 1) := by decide +kernel
theorem dX10_isLive_0 : decode cX10_isLive 0 = .ok (.aload_n 0, 1) := by decide +kernel
theorem dX10_isLive_1 : decode cX10_isLive 1 = .ok (.getfield 24, 3) := by decide +kernel
theorem dX10_isLive_4 : decode cX10_isLive 4 = .ok (.ifCond .eq 11, 3) := by decide +kernel
theorem dX10_isLive_7 : decode cX10_isLive 7 = .ok (.aload_n 0, 1) := by decide +kernel
theorem dX10_isLive_8 : decode cX10_isLive 8 = .ok (.getfield 24, 3) := by decide +kernel
theorem dX10_isLive_11 : decode cX10_isLive 11 = .ok (.iconst 1, 1) := by decide +kernel
theorem dX10_isLive_12 : decode cX10_isLive 12 = .ok (.if_icmp .ne 7, 3) := by decide +kernel
theorem dX10_isLive_15 : decode cX10_isLive 15 = .ok (.iconst 1, 1) := by decide +kernel
theorem dX10_isLive_16 : decode cX10_isLive 16 = .ok (.goto 4, 3) := by decide +kernel
theorem dX10_isLive_19 : decode cX10_isLive 19 = .ok (.iconst 0, 1) := by decide +kernel
theorem dX10_isLive_20 : decode cX10_isLive 20 = .ok (.ireturn, 1) := by decide +kernel
theorem dX10_isOver_0 : decode cX10_isOver 0 = .ok (.aload_n 0, 1) := by decide +kernel
theorem dX10_isOver_1 : decode cX10_isOver 1 = .ok (.getfield 24, 3) := by decide +kernel
theorem dX10_isOver_4 : decode cX10_isOver 4 = .ok (.iconst 3, 1) := by decide +kernel
theorem dX10_isOver_5 : decode cX10_isOver 5 = .ok (.if_icmp .eq 11, 3) := by decide +kernel
theorem dX10_isOver_8 : decode cX10_isOver 8 = .ok (.aload_n 0, 1) := by decide +kernel
theorem dX10_isOver_9 : decode cX10_isOver 9 = .ok (.getfield 24, 3) := by decide +kernel
theorem dX10_isOver_12 : decode cX10_isOver 12 = .ok (.iconst 4, 1) := by decide +kernel
theorem dX10_isOver_13 : decode cX10_isOver 13 = .ok (.if_icmp .ne 7, 3) := by decide +kernel
theorem dX10_isOver_16 : decode cX10_isOver 16 = .ok (.iconst 1, 1) := by decide +kernel
theorem dX10_isOver_17 : decode cX10_isOver 17 = .ok (.goto 4, 3) := by decide +kernel
theorem dX10_isOver_20 : decode cX10_isOver 20 = .ok (.iconst 0, 1) := by decide +kernel
theorem dX10_isOver_21 : decode cX10_isOver 21 = .ok (.ireturn, 1) := by decide +kernel
theorem dX10_settle_0 : decode cX10_settle 0 = .ok (.aload_n 0, 1) := by decide +kernel
theorem dX10_settle_1 : decode cX10_settle 1 = .ok (.getfield 24, 3) := by decide +kernel
theorem dX10_settle_4 : decode cX10_settle 4 = .ok (.ifCond .ne 15, 3) := by decide +kernel
theorem dX10_settle_7 : decode cX10_settle 7 = .ok (.aload_n 0, 1) := by decide +kernel
theorem dX10_settle_8 : decode cX10_settle 8 = .ok (.getfield 9, 3) := by decide +kernel
theorem dX10_settle_11 : decode cX10_settle 11 = .ok (.ifCond .lt 8, 3) := by decide +kernel
theorem dX10_settle_14 : decode cX10_settle 14 = .ok (.aload_n 0, 1) := by decide +kernel
theorem dX10_settle_15 : decode cX10_settle 15 = .ok (.iconst 1, 1) := by decide +kernel
theorem dX10_settle_16 : decode cX10_settle 16 = .ok (.putfield 24, 3) := by decide +kernel
theorem dX10_settle_19 : decode cX10_settle 19 = .ok (.aload_n 0, 1) := by decide +kernel
theorem dX10_settle_20 : decode cX10_settle 20 = .ok (.getfield 24, 3) := by decide +kernel
theorem dX10_settle_23 : decode cX10_settle 23 = .ok (.iconst 1, 1) := by decide +kernel
theorem dX10_settle_24 : decode cX10_settle 24 = .ok (.if_icmp .ne 19, 3) := by decide +kernel
theorem dX10_settle_27 : decode cX10_settle 27 = .ok (.aload_n 0, 1) := by decide +kernel
theorem dX10_settle_28 : decode cX10_settle 28 = .ok (.getfield 30, 3) := by decide +kernel
theorem dX10_settle_31 : decode cX10_settle 31 = .ok (.aload_n 0, 1) := by decide +kernel
theorem dX10_settle_32 : decode cX10_settle 32 = .ok (.getfield 9, 3) := by decide +kernel
theorem dX10_settle_35 : decode cX10_settle 35 = .ok (.if_icmp .ne 8, 3) := by decide +kernel
theorem dX10_settle_38 : decode cX10_settle 38 = .ok (.aload_n 0, 1) := by decide +kernel
theorem dX10_settle_39 : decode cX10_settle 39 = .ok (.iconst 2, 1) := by decide +kernel
theorem dX10_settle_40 : decode cX10_settle 40 = .ok (.putfield 24, 3) := by decide +kernel
theorem dX10_settle_43 : decode cX10_settle 43 = .ok (.aload_n 0, 1) := by decide +kernel
theorem dX10_settle_44 : decode cX10_settle 44 = .ok (.getfield 24, 3) := by decide +kernel
theorem dX10_settle_47 : decode cX10_settle 47 = .ok (.iconst 2, 1) := by decide +kernel
theorem dX10_settle_48 : decode cX10_settle 48 = .ok (.if_icmp .ne 19, 3) := by decide +kernel
theorem dX10_settle_51 : decode cX10_settle 51 = .ok (.aload_n 0, 1) := by decide +kernel
theorem dX10_settle_52 : decode cX10_settle 52 = .ok (.getfield 27, 3) := by decide +kernel
theorem dX10_settle_55 : decode cX10_settle 55 = .ok (.aload_n 0, 1) := by decide +kernel
theorem dX10_settle_56 : decode cX10_settle 56 = .ok (.getfield 9, 3) := by decide +kernel
theorem dX10_settle_59 : decode cX10_settle 59 = .ok (.if_icmp .ne 8, 3) := by decide +kernel
theorem dX10_settle_62 : decode cX10_settle 62 = .ok (.aload_n 0, 1) := by decide +kernel
theorem dX10_settle_63 : decode cX10_settle 63 = .ok (.iconst 3, 1) := by decide +kernel
theorem dX10_settle_64 : decode cX10_settle 64 = .ok (.putfield 24, 3) := by decide +kernel
theorem dX10_settle_67 : decode cX10_settle 67 = .ok (.return_, 1) := by decide +kernel
theorem dJ0_init_0 : decode cJ0_init 0 = .ok (.aload_n 0, 1) := by decide +kernel
theorem dJ0_init_1 : decode cJ0_init 1 = .ok (.invokespecial 1, 3) := by decide +kernel
theorem dJ0_init_4 : decode cJ0_init 4 = .ok (.aload_n 0, 1) := by decide +kernel
theorem dJ0_init_5 : decode cJ0_init 5 = .ok (.aload_n 0, 1) := by decide +kernel
theorem dJ0_init_6 : decode cJ0_init 6 = .ok (.putfield 7, 3) := by decide +kernel
theorem dJ0_init_9 : decode cJ0_init 9 = .ok (.aload_n 0, 1) := by decide +kernel
theorem dJ0_init_10 : decode cJ0_init 10 = .ok (.getstatic 13, 3) := by decide +kernel
theorem dJ0_init_13 : decode cJ0_init 13 = .ok (.putfield 17, 3) := by decide +kernel
theorem dJ0_init_16 : decode cJ0_init 16 = .ok (.aload_n 0, 1) := by decide +kernel
theorem dJ0_init_17 : decode cJ0_init 17 = .ok (.getstatic 20, 3) := by decide +kernel
theorem dJ0_init_20 : decode cJ0_init 20 = .ok (.putfield 24, 3) := by decide +kernel
theorem dJ0_init_23 : decode cJ0_init 23 = .ok (.aload_n 0, 1) := by decide +kernel
theorem dJ0_init_24 : decode cJ0_init 24 = .ok (.invokevirtual 27, 3) := by decide +kernel
theorem dJ0_init_27 : decode cJ0_init 27 = .ok (.pop, 1) := by decide +kernel
theorem dJ0_init_28 : decode cJ0_init 28 = .ok (.return_, 1) := by decide +kernel
theorem dJ1_init_0 : decode cJ1_init 0 = .ok (.aload_n 0, 1) := by decide +kernel
theorem dJ1_init_1 : decode cJ1_init 1 = .ok (.invokespecial 1, 3) := by decide +kernel
theorem dJ1_init_4 : decode cJ1_init 4 = .ok (.return_, 1) := by decide +kernel
theorem dJ2_init_0 : decode cJ2_init 0 = .ok (.aload_n 0, 1) := by decide +kernel
theorem dJ2_init_1 : decode cJ2_init 1 = .ok (.invokespecial 1, 3) := by decide +kernel
theorem dJ2_init_4 : decode cJ2_init 4 = .ok (.return_, 1) := by decide +kernel
theorem dJ3_init_0 : decode cJ3_init 0 = .ok (.aload_n 0, 1) := by decide +kernel
theorem dJ3_init_1 : decode cJ3_init 1 = .ok (.invokespecial 1, 3) := by decide +kernel
theorem dJ3_init_4 : decode cJ3_init 4 = .ok (.return_, 1) := by decide +kernel
theorem dJ4_init_0 : decode cJ4_init 0 = .ok (.aload_n 0, 1) := by decide +kernel
theorem dJ4_init_1 : decode cJ4_init 1 = .ok (.invokespecial 1, 3) := by decide +kernel
theorem dJ4_init_4 : decode cJ4_init 4 = .ok (.return_, 1) := by decide +kernel
theorem dJ5_min_0 : decode cJ5_min 0 = .ok (.lload_n 0, 1) := by decide +kernel
theorem dJ5_min_1 : decode cJ5_min 1 = .ok (.lload_n 2, 1) := by decide +kernel
theorem dJ5_min_2 : decode cJ5_min 2 = .ok (.lcmp, 1) := by decide +kernel
theorem dJ5_min_3 : decode cJ5_min 3 = .ok (.ifCond .gt 7, 3) := by decide +kernel
theorem dJ5_min_6 : decode cJ5_min 6 = .ok (.lload_n 0, 1) := by decide +kernel
theorem dJ5_min_7 : decode cJ5_min 7 = .ok (.goto 4, 3) := by decide +kernel
theorem dJ5_min_10 : decode cJ5_min 10 = .ok (.lload_n 2, 1) := by decide +kernel
theorem dJ5_min_11 : decode cJ5_min 11 = .ok (.lreturn, 1) := by decide +kernel
theorem dJ5_min_2_0 : decode cJ5_min_2 0 = .ok (.iload_n 0, 1) := by decide +kernel
theorem dJ5_min_2_1 : decode cJ5_min_2 1 = .ok (.iload_n 1, 1) := by decide +kernel
theorem dJ5_min_2_2 : decode cJ5_min_2 2 = .ok (.if_icmp .gt 7, 3) := by decide +kernel
theorem dJ5_min_2_5 : decode cJ5_min_2 5 = .ok (.iload_n 0, 1) := by decide +kernel
theorem dJ5_min_2_6 : decode cJ5_min_2 6 = .ok (.goto 4, 3) := by decide +kernel
theorem dJ5_min_2_9 : decode cJ5_min_2 9 = .ok (.iload_n 1, 1) := by decide +kernel
theorem dJ5_min_2_10 : decode cJ5_min_2 10 = .ok (.ireturn, 1) := by decide +kernel
theorem dJ5_max_0 : decode cJ5_max 0 = .ok (.iload_n 0, 1) := by decide +kernel
theorem dJ5_max_1 : decode cJ5_max 1 = .ok (.iload_n 1, 1) := by decide +kernel
theorem dJ5_max_2 : decode cJ5_max 2 = .ok (.if_icmp .lt 7, 3) := by decide +kernel
theorem dJ5_max_5 : decode cJ5_max 5 = .ok (.iload_n 0, 1) := by decide +kernel
theorem dJ5_max_6 : decode cJ5_max 6 = .ok (.goto 4, 3) := by decide +kernel
theorem dJ5_max_9 : decode cJ5_max 9 = .ok (.iload_n 1, 1) := by decide +kernel
theorem dJ5_max_10 : decode cJ5_max 10 = .ok (.ireturn, 1) := by decide +kernel
theorem dJ5_max_2_0 : decode cJ5_max_2 0 = .ok (.lload_n 0, 1) := by decide +kernel
theorem dJ5_max_2_1 : decode cJ5_max_2 1 = .ok (.lload_n 2, 1) := by decide +kernel
theorem dJ5_max_2_2 : decode cJ5_max_2 2 = .ok (.lcmp, 1) := by decide +kernel
theorem dJ5_max_2_3 : decode cJ5_max_2 3 = .ok (.ifCond .lt 7, 3) := by decide +kernel
theorem dJ5_max_2_6 : decode cJ5_max_2 6 = .ok (.lload_n 0, 1) := by decide +kernel
theorem dJ5_max_2_7 : decode cJ5_max_2 7 = .ok (.goto 4, 3) := by decide +kernel
theorem dJ5_max_2_10 : decode cJ5_max_2 10 = .ok (.lload_n 2, 1) := by decide +kernel
theorem dJ5_max_2_11 : decode cJ5_max_2 11 = .ok (.lreturn, 1) := by decide +kernel
theorem dJ6_copyOf_0 : decode cJ6_copyOf 0 = .ok (.iload_n 1, 1) := by decide +kernel
theorem dJ6_copyOf_1 : decode cJ6_copyOf 1 = .ok (.aload_n 0, 1) := by decide +kernel
theorem dJ6_copyOf_2 : decode cJ6_copyOf 2 = .ok (.arraylength, 1) := by decide +kernel
theorem dJ6_copyOf_3 : decode cJ6_copyOf 3 = .ok (.if_icmp .ne 11, 3) := by decide +kernel
theorem dJ6_copyOf_6 : decode cJ6_copyOf 6 = .ok (.aload_n 0, 1) := by decide +kernel
theorem dJ6_copyOf_7 : decode cJ6_copyOf 7 = .ok (.invokevirtual 316, 3) := by decide +kernel
theorem dJ6_copyOf_10 : decode cJ6_copyOf 10 = .ok (.checkcast 317, 3) := by decide +kernel
theorem dJ6_copyOf_13 : decode cJ6_copyOf 13 = .ok (.areturn, 1) := by decide +kernel
theorem dJ6_copyOf_14 : decode cJ6_copyOf 14 = .ok (.iload_n 1, 1) := by decide +kernel
theorem dJ6_copyOf_15 : decode cJ6_copyOf 15 = .ok (.newarray .int, 2) := by decide +kernel
theorem dJ6_copyOf_17 : decode cJ6_copyOf 17 = .ok (.astore_n 2, 1) := by decide +kernel
theorem dJ6_copyOf_18 : decode cJ6_copyOf 18 = .ok (.aload_n 0, 1) := by decide +kernel
theorem dJ6_copyOf_19 : decode cJ6_copyOf 19 = .ok (.iconst 0, 1) := by decide +kernel
theorem dJ6_copyOf_20 : decode cJ6_copyOf 20 = .ok (.aload_n 2, 1) := by decide +kernel
theorem dJ6_copyOf_21 : decode cJ6_copyOf 21 = .ok (.iconst 0, 1) := by decide +kernel
theorem dJ6_copyOf_22 : decode cJ6_copyOf 22 = .ok (.aload_n 0, 1) := by decide +kernel
theorem dJ6_copyOf_23 : decode cJ6_copyOf 23 = .ok (.arraylength, 1) := by decide +kernel
theorem dJ6_copyOf_24 : decode cJ6_copyOf 24 = .ok (.iload_n 1, 1) := by decide +kernel
theorem dJ6_copyOf_25 : decode cJ6_copyOf 25 = .ok (.invokestatic 304, 3) := by decide +kernel
theorem dJ6_copyOf_28 : decode cJ6_copyOf 28 = .ok (.invokestatic 150, 3) := by decide +kernel
theorem dJ6_copyOf_31 : decode cJ6_copyOf 31 = .ok (.aload_n 2, 1) := by decide +kernel
theorem dJ6_copyOf_32 : decode cJ6_copyOf 32 = .ok (.areturn, 1) := by decide +kernel
theorem dJ6_copyOf_2_0 : decode cJ6_copyOf_2 0 = .ok (.iload_n 1, 1) := by decide +kernel
theorem dJ6_copyOf_2_1 : decode cJ6_copyOf_2 1 = .ok (.aload_n 0, 1) := by decide +kernel
theorem dJ6_copyOf_2_2 : decode cJ6_copyOf_2 2 = .ok (.arraylength, 1) := by decide +kernel
theorem dJ6_copyOf_2_3 : decode cJ6_copyOf_2 3 = .ok (.if_icmp .ne 11, 3) := by decide +kernel
theorem dJ6_copyOf_2_6 : decode cJ6_copyOf_2 6 = .ok (.aload_n 0, 1) := by decide +kernel
theorem dJ6_copyOf_2_7 : decode cJ6_copyOf_2 7 = .ok (.invokevirtual 310, 3) := by decide +kernel
theorem dJ6_copyOf_2_10 : decode cJ6_copyOf_2 10 = .ok (.checkcast 311, 3) := by decide +kernel
theorem dJ6_copyOf_2_13 : decode cJ6_copyOf_2 13 = .ok (.areturn, 1) := by decide +kernel
theorem dJ6_copyOf_2_14 : decode cJ6_copyOf_2 14 = .ok (.iload_n 1, 1) := by decide +kernel
theorem dJ6_copyOf_2_15 : decode cJ6_copyOf_2 15 = .ok (.newarray .byte, 2) := by decide +kernel
theorem dJ6_copyOf_2_17 : decode cJ6_copyOf_2 17 = .ok (.astore_n 2, 1) := by decide +kernel
theorem dJ6_copyOf_2_18 : decode cJ6_copyOf_2 18 = .ok (.aload_n 0, 1) := by decide +kernel
theorem dJ6_copyOf_2_19 : decode cJ6_copyOf_2 19 = .ok (.iconst 0, 1) := by decide +kernel
theorem dJ6_copyOf_2_20 : decode cJ6_copyOf_2 20 = .ok (.aload_n 2, 1) := by decide +kernel
theorem dJ6_copyOf_2_21 : decode cJ6_copyOf_2 21 = .ok (.iconst 0, 1) := by decide +kernel
theorem dJ6_copyOf_2_22 : decode cJ6_copyOf_2 22 = .ok (.aload_n 0, 1) := by decide +kernel
theorem dJ6_copyOf_2_23 : decode cJ6_copyOf_2 23 = .ok (.arraylength, 1) := by decide +kernel
theorem dJ6_copyOf_2_24 : decode cJ6_copyOf_2 24 = .ok (.iload_n 1, 1) := by decide +kernel
theorem dJ6_copyOf_2_25 : decode cJ6_copyOf_2 25 = .ok (.invokestatic 304, 3) := by decide +kernel
theorem dJ6_copyOf_2_28 : decode cJ6_copyOf_2 28 = .ok (.invokestatic 150, 3) := by decide +kernel
theorem dJ6_copyOf_2_31 : decode cJ6_copyOf_2 31 = .ok (.aload_n 2, 1) := by decide +kernel
theorem dJ6_copyOf_2_32 : decode cJ6_copyOf_2 32 = .ok (.areturn, 1) := by decide +kernel
theorem dJ6_copyOf_3_0 : decode cJ6_copyOf_3 0 = .ok (.iload_n 1, 1) := by decide +kernel
theorem dJ6_copyOf_3_1 : decode cJ6_copyOf_3 1 = .ok (.aload_n 0, 1) := by decide +kernel
theorem dJ6_copyOf_3_2 : decode cJ6_copyOf_3 2 = .ok (.arraylength, 1) := by decide +kernel
theorem dJ6_copyOf_3_3 : decode cJ6_copyOf_3 3 = .ok (.if_icmp .ne 11, 3) := by decide +kernel
theorem dJ6_copyOf_3_6 : decode cJ6_copyOf_3 6 = .ok (.aload_n 0, 1) := by decide +kernel
theorem dJ6_copyOf_3_7 : decode cJ6_copyOf_3 7 = .ok (.invokevirtual 319, 3) := by decide +kernel
theorem dJ6_copyOf_3_10 : decode cJ6_copyOf_3 10 = .ok (.checkcast 320, 3) := by decide +kernel
theorem dJ6_copyOf_3_13 : decode cJ6_copyOf_3 13 = .ok (.areturn, 1) := by decide +kernel
theorem dJ6_copyOf_3_14 : decode cJ6_copyOf_3 14 = .ok (.iload_n 1, 1) := by decide +kernel
theorem dJ6_copyOf_3_15 : decode cJ6_copyOf_3 15 = .ok (.newarray .long, 2) := by decide +kernel
theorem dJ6_copyOf_3_17 : decode cJ6_copyOf_3 17 = .ok (.astore_n 2, 1) := by decide +kernel
theorem dJ6_copyOf_3_18 : decode cJ6_copyOf_3 18 = .ok (.aload_n 0, 1) := by decide +kernel
theorem dJ6_copyOf_3_19 : decode cJ6_copyOf_3 19 = .ok (.iconst 0, 1) := by decide +kernel
theorem dJ6_copyOf_3_20 : decode cJ6_copyOf_3 20 = .ok (.aload_n 2, 1) := by decide +kernel
theorem dJ6_copyOf_3_21 : decode cJ6_copyOf_3 21 = .ok (.iconst 0, 1) := by decide +kernel
theorem dJ6_copyOf_3_22 : decode cJ6_copyOf_3 22 = .ok (.aload_n 0, 1) := by decide +kernel
theorem dJ6_copyOf_3_23 : decode cJ6_copyOf_3 23 = .ok (.arraylength, 1) := by decide +kernel
theorem dJ6_copyOf_3_24 : decode cJ6_copyOf_3 24 = .ok (.iload_n 1, 1) := by decide +kernel
theorem dJ6_copyOf_3_25 : decode cJ6_copyOf_3 25 = .ok (.invokestatic 304, 3) := by decide +kernel
theorem dJ6_copyOf_3_28 : decode cJ6_copyOf_3 28 = .ok (.invokestatic 150, 3) := by decide +kernel
theorem dJ6_copyOf_3_31 : decode cJ6_copyOf_3 31 = .ok (.aload_n 2, 1) := by decide +kernel
theorem dJ6_copyOf_3_32 : decode cJ6_copyOf_3 32 = .ok (.areturn, 1) := by decide +kernel
theorem dJ7_init_0 : decode cJ7_init 0 = .ok (.aload_n 0, 1) := by decide +kernel
theorem dJ7_init_1 : decode cJ7_init 1 = .ok (.invokespecial 1, 3) := by decide +kernel
theorem dJ7_init_4 : decode cJ7_init 4 = .ok (.return_, 1) := by decide +kernel
theorem dJ8_init_0 : decode cJ8_init 0 = .ok (.return_, 1) := by decide +kernel
theorem dX1_init_0 : decode cX1_init 0 = .ok (.aload_n 0, 1) := by decide +kernel
theorem dX1_init_1 : decode cX1_init 1 = .ok (.invokespecial 7, 3) := by decide +kernel
theorem dX1_init_4 : decode cX1_init 4 = .ok (.aload_n 0, 1) := by decide +kernel
theorem dX1_init_5 : decode cX1_init 5 = .ok (.iconst 2, 1) := by decide +kernel
theorem dX1_init_6 : decode cX1_init 6 = .ok (.anewarray 13, 3) := by decide +kernel
theorem dX1_init_9 : decode cX1_init 9 = .ok (.dup, 1) := by decide +kernel
theorem dX1_init_10 : decode cX1_init 10 = .ok (.iconst 0, 1) := by decide +kernel
theorem dX1_init_11 : decode cX1_init 11 = .ok (.new 13, 3) := by decide +kernel
theorem dX1_init_14 : decode cX1_init 14 = .ok (.dup, 1) := by decide +kernel
theorem dX1_init_15 : decode cX1_init 15 = .ok (.iconst 0, 1) := by decide +kernel
theorem dX1_init_16 : decode cX1_init 16 = .ok (.invokespecial 15, 3) := by decide +kernel
theorem dX1_init_19 : decode cX1_init 19 = .ok (.aastore, 1) := by decide +kernel
theorem dX1_init_20 : decode cX1_init 20 = .ok (.dup, 1) := by decide +kernel
theorem dX1_init_21 : decode cX1_init 21 = .ok (.iconst 1, 1) := by decide +kernel
theorem dX1_init_22 : decode cX1_init 22 = .ok (.new 13, 3) := by decide +kernel
theorem dX1_init_25 : decode cX1_init 25 = .ok (.dup, 1) := by decide +kernel
theorem dX1_init_26 : decode cX1_init 26 = .ok (.iconst 1, 1) := by decide +kernel
theorem dX1_init_27 : decode cX1_init 27 = .ok (.invokespecial 15, 3) := by decide +kernel
theorem dX1_init_30 : decode cX1_init 30 = .ok (.aastore, 1) := by decide +kernel
theorem dX1_init_31 : decode cX1_init 31 = .ok (.putfield 18, 3) := by decide +kernel
theorem dX1_init_34 : decode cX1_init 34 = .ok (.aload_n 0, 1) := by decide +kernel
theorem dX1_init_35 : decode cX1_init 35 = .ok (.iconst 2, 1) := by decide +kernel
theorem dX1_init_36 : decode cX1_init 36 = .ok (.anewarray 24, 3) := by decide +kernel
theorem dX1_init_39 : decode cX1_init 39 = .ok (.dup, 1) := by decide +kernel
theorem dX1_init_40 : decode cX1_init 40 = .ok (.iconst 0, 1) := by decide +kernel
theorem dX1_init_41 : decode cX1_init 41 = .ok (.bipush 6, 2) := by decide +kernel
theorem dX1_init_43 : decode cX1_init 43 = .ok (.newarray .int, 2) := by decide +kernel
theorem dX1_init_45 : decode cX1_init 45 = .ok (.dup, 1) := by decide +kernel
theorem dX1_init_46 : decode cX1_init 46 = .ok (.iconst 0, 1) := by decide +kernel
theorem dX1_init_47 : decode cX1_init 47 = .ok (.sipush 4096, 3) := by decide +kernel
theorem dX1_init_50 : decode cX1_init 50 = .ok (.iastore, 1) := by decide +kernel
theorem dX1_init_51 : decode cX1_init 51 = .ok (.dup, 1) := by decide +kernel
theorem dX1_init_52 : decode cX1_init 52 = .ok (.iconst 1, 1) := by decide +kernel
theorem dX1_init_53 : decode cX1_init 53 = .ok (.sipush 1024, 3) := by decide +kernel
theorem dX1_init_56 : decode cX1_init 56 = .ok (.iastore, 1) := by decide +kernel
theorem dX1_init_57 : decode cX1_init 57 = .ok (.dup, 1) := by decide +kernel
theorem dX1_init_58 : decode cX1_init 58 = .ok (.iconst 2, 1) := by decide +kernel
theorem dX1_init_59 : decode cX1_init 59 = .ok (.sipush 1024, 3) := by decide +kernel
theorem dX1_init_62 : decode cX1_init 62 = .ok (.iastore, 1) := by decide +kernel
theorem dX1_init_63 : decode cX1_init 63 = .ok (.dup, 1) := by decide +kernel
theorem dX1_init_64 : decode cX1_init 64 = .ok (.iconst 3, 1) := by decide +kernel
theorem dX1_init_65 : decode cX1_init 65 = .ok (.sipush 1024, 3) := by decide +kernel
theorem dX1_init_68 : decode cX1_init 68 = .ok (.iastore, 1) := by decide +kernel
theorem dX1_init_69 : decode cX1_init 69 = .ok (.dup, 1) := by decide +kernel
theorem dX1_init_70 : decode cX1_init 70 = .ok (.iconst 4, 1) := by decide +kernel
theorem dX1_init_71 : decode cX1_init 71 = .ok (.iconst 4, 1) := by decide +kernel
theorem dX1_init_72 : decode cX1_init 72 = .ok (.iastore, 1) := by decide +kernel
theorem dX1_init_73 : decode cX1_init 73 = .ok (.dup, 1) := by decide +kernel
theorem dX1_init_74 : decode cX1_init 74 = .ok (.iconst 5, 1) := by decide +kernel
theorem dX1_init_75 : decode cX1_init 75 = .ok (.iconst 4, 1) := by decide +kernel
theorem dX1_init_76 : decode cX1_init 76 = .ok (.iastore, 1) := by decide +kernel
theorem dX1_init_77 : decode cX1_init 77 = .ok (.aastore, 1) := by decide +kernel
theorem dX1_init_78 : decode cX1_init 78 = .ok (.dup, 1) := by decide +kernel
theorem dX1_init_79 : decode cX1_init 79 = .ok (.iconst 1, 1) := by decide +kernel
theorem dX1_init_80 : decode cX1_init 80 = .ok (.bipush 6, 2) := by decide +kernel
theorem dX1_init_82 : decode cX1_init 82 = .ok (.newarray .int, 2) := by decide +kernel
theorem dX1_init_84 : decode cX1_init 84 = .ok (.dup, 1) := by decide +kernel
theorem dX1_init_85 : decode cX1_init 85 = .ok (.iconst 0, 1) := by decide +kernel
theorem dX1_init_86 : decode cX1_init 86 = .ok (.sipush 4096, 3) := by decide +kernel
theorem dX1_init_89 : decode cX1_init 89 = .ok (.iastore, 1) := by decide +kernel
theorem dX1_init_90 : decode cX1_init 90 = .ok (.dup, 1) := by decide +kernel
theorem dX1_init_91 : decode cX1_init 91 = .ok (.iconst 1, 1) := by decide +kernel
theorem dX1_init_92 : decode cX1_init 92 = .ok (.sipush 1024, 3) := by decide +kernel
theorem dX1_init_95 : decode cX1_init 95 = .ok (.iastore, 1) := by decide +kernel
theorem dX1_init_96 : decode cX1_init 96 = .ok (.dup, 1) := by decide +kernel
theorem dX1_init_97 : decode cX1_init 97 = .ok (.iconst 2, 1) := by decide +kernel
theorem dX1_init_98 : decode cX1_init 98 = .ok (.sipush 1024, 3) := by decide +kernel
theorem dX1_init_101 : decode cX1_init 101 = .ok (.iastore, 1) := by decide +kernel
theorem dX1_init_102 : decode cX1_init 102 = .ok (.dup, 1) := by decide +kernel
theorem dX1_init_103 : decode cX1_init 103 = .ok (.iconst 3, 1) := by decide +kernel
theorem dX1_init_104 : decode cX1_init 104 = .ok (.sipush 1024, 3) := by decide +kernel
theorem dX1_init_107 : decode cX1_init 107 = .ok (.iastore, 1) := by decide +kernel
theorem dX1_init_108 : decode cX1_init 108 = .ok (.dup, 1) := by decide +kernel
theorem dX1_init_109 : decode cX1_init 109 = .ok (.iconst 4, 1) := by decide +kernel
theorem dX1_init_110 : decode cX1_init 110 = .ok (.iconst 4, 1) := by decide +kernel
theorem dX1_init_111 : decode cX1_init 111 = .ok (.iastore, 1) := by decide +kernel
theorem dX1_init_112 : decode cX1_init 112 = .ok (.dup, 1) := by decide +kernel
theorem dX1_init_113 : decode cX1_init 113 = .ok (.iconst 5, 1) := by decide +kernel
theorem dX1_init_114 : decode cX1_init 114 = .ok (.iconst 4, 1) := by decide +kernel
theorem dX1_init_115 : decode cX1_init 115 = .ok (.iastore, 1) := by decide +kernel
theorem dX1_init_116 : decode cX1_init 116 = .ok (.aastore, 1) := by decide +kernel
theorem dX1_init_117 : decode cX1_init 117 = .ok (.putfield 26, 3) := by decide +kernel
theorem dX1_init_120 : decode cX1_init 120 = .ok (.aload_n 0, 1) := by decide +kernel
theorem dX1_init_121 : decode cX1_init 121 = .ok (.bipush 64, 2) := by decide +kernel
theorem dX1_init_123 : decode cX1_init 123 = .ok (.anewarray 30, 3) := by decide +kernel
theorem dX1_init_126 : decode cX1_init 126 = .ok (.putfield 32, 3) := by decide +kernel
theorem dX1_init_129 : decode cX1_init 129 = .ok (.aload_n 0, 1) := by decide +kernel
theorem dX1_init_130 : decode cX1_init 130 = .ok (.sipush 2048, 3) := by decide +kernel
theorem dX1_init_133 : decode cX1_init 133 = .ok (.newarray .byte, 2) := by decide +kernel
theorem dX1_init_135 : decode cX1_init 135 = .ok (.putfield 36, 3) := by decide +kernel
theorem dX1_init_138 : decode cX1_init 138 = .ok (.aload_n 0, 1) := by decide +kernel
theorem dX1_init_139 : decode cX1_init 139 = .ok (.sipush 2048, 3) := by decide +kernel
theorem dX1_init_142 : decode cX1_init 142 = .ok (.newarray .byte, 2) := by decide +kernel
theorem dX1_init_144 : decode cX1_init 144 = .ok (.putfield 40, 3) := by decide +kernel
theorem dX1_init_147 : decode cX1_init 147 = .ok (.iconst 0, 1) := by decide +kernel
theorem dX1_init_148 : decode cX1_init 148 = .ok (.istore_n 1, 1) := by decide +kernel
theorem dX1_init_149 : decode cX1_init 149 = .ok (.iload_n 1, 1) := by decide +kernel
theorem dX1_init_150 : decode cX1_init 150 = .ok (.bipush 64, 2) := by decide +kernel
theorem dX1_init_152 : decode cX1_init 152 = .ok (.if_icmp .ge 22, 3) := by decide +kernel
theorem dX1_init_155 : decode cX1_init 155 = .ok (.aload_n 0, 1) := by decide +kernel
theorem dX1_init_156 : decode cX1_init 156 = .ok (.getfield 32, 3) := by decide +kernel
theorem dX1_init_159 : decode cX1_init 159 = .ok (.iload_n 1, 1) := by decide +kernel
theorem dX1_init_160 : decode cX1_init 160 = .ok (.new 30, 3) := by decide +kernel
theorem dX1_init_163 : decode cX1_init 163 = .ok (.dup, 1) := by decide +kernel
theorem dX1_init_164 : decode cX1_init 164 = .ok (.invokespecial 43, 3) := by decide +kernel
theorem dX1_init_167 : decode cX1_init 167 = .ok (.aastore, 1) := by decide +kernel
theorem dX1_init_168 : decode cX1_init 168 = .ok (.iinc 1 1, 3) := by decide +kernel
theorem dX1_init_171 : decode cX1_init 171 = .ok (.goto (-22), 3) := by decide +kernel
theorem dX1_init_174 : decode cX1_init 174 = .ok (.aload_n 0, 1) := by decide +kernel
theorem dX1_init_175 : decode cX1_init 175 = .ok (.iconst 0, 1) := by decide +kernel
theorem dX1_init_176 : decode cX1_init 176 = .ok (.invokevirtual 44, 3) := by decide +kernel
theorem dX1_init_179 : decode cX1_init 179 = .ok (.aload_n 0, 1) := by decide +kernel
theorem dX1_init_180 : decode cX1_init 180 = .ok (.iconst 1, 1) := by decide +kernel
theorem dX1_init_181 : decode cX1_init 181 = .ok (.invokevirtual 44, 3) := by decide +kernel
theorem dX1_init_184 : decode cX1_init 184 = .ok (.return_, 1) := by decide +kernel
theorem dX1_allow_0 : decode cX1_allow 0 = .ok (.aload_n 0, 1) := by decide +kernel
theorem dX1_allow_1 : decode cX1_allow 1 = .ok (.getfield 26, 3) := by decide +kernel
theorem dX1_allow_4 : decode cX1_allow 4 = .ok (.iload_n 1, 1) := by decide +kernel
theorem dX1_allow_5 : decode cX1_allow 5 = .ok (.aaload, 1) := by decide +kernel
theorem dX1_allow_6 : decode cX1_allow 6 = .ok (.astore_n 2, 1) := by decide +kernel
theorem dX1_allow_7 : decode cX1_allow 7 = .ok (.aload_n 0, 1) := by decide +kernel
theorem dX1_allow_8 : decode cX1_allow 8 = .ok (.getfield 18, 3) := by decide +kernel
theorem dX1_allow_11 : decode cX1_allow 11 = .ok (.iload_n 1, 1) := by decide +kernel
theorem dX1_allow_12 : decode cX1_allow 12 = .ok (.aaload, 1) := by decide +kernel
theorem dX1_allow_13 : decode cX1_allow 13 = .ok (.aload_n 2, 1) := by decide +kernel
theorem dX1_allow_14 : decode cX1_allow 14 = .ok (.iconst 0, 1) := by decide +kernel
theorem dX1_allow_15 : decode cX1_allow 15 = .ok (.iaload, 1) := by decide +kernel
theorem dX1_allow_16 : decode cX1_allow 16 = .ok (.aload_n 2, 1) := by decide +kernel
theorem dX1_allow_17 : decode cX1_allow 17 = .ok (.iconst 1, 1) := by decide +kernel
theorem dX1_allow_18 : decode cX1_allow 18 = .ok (.iaload, 1) := by decide +kernel
theorem dX1_allow_19 : decode cX1_allow 19 = .ok (.aload_n 2, 1) := by decide +kernel
theorem dX1_allow_20 : decode cX1_allow 20 = .ok (.iconst 2, 1) := by decide +kernel
theorem dX1_allow_21 : decode cX1_allow 21 = .ok (.iaload, 1) := by decide +kernel
theorem dX1_allow_22 : decode cX1_allow 22 = .ok (.aload_n 2, 1) := by decide +kernel
theorem dX1_allow_23 : decode cX1_allow 23 = .ok (.iconst 3, 1) := by decide +kernel
theorem dX1_allow_24 : decode cX1_allow 24 = .ok (.iaload, 1) := by decide +kernel
theorem dX1_allow_25 : decode cX1_allow 25 = .ok (.aload_n 2, 1) := by decide +kernel
theorem dX1_allow_26 : decode cX1_allow 26 = .ok (.iconst 4, 1) := by decide +kernel
theorem dX1_allow_27 : decode cX1_allow 27 = .ok (.iaload, 1) := by decide +kernel
theorem dX1_allow_28 : decode cX1_allow 28 = .ok (.aload_n 2, 1) := by decide +kernel
theorem dX1_allow_29 : decode cX1_allow 29 = .ok (.iconst 5, 1) := by decide +kernel
theorem dX1_allow_30 : decode cX1_allow 30 = .ok (.iaload, 1) := by decide +kernel
theorem dX1_allow_31 : decode cX1_allow 31 = .ok (.invokevirtual 47, 3) := by decide +kernel
theorem dX1_allow_34 : decode cX1_allow 34 = .ok (.return_, 1) := by decide +kernel
theorem dX1_grant_0 : decode cX1_grant 0 = .ok (.iload_n 1, 1) := by decide +kernel
theorem dX1_grant_1 : decode cX1_grant 1 = .ok (.i2l, 1) := by decide +kernel
theorem dX1_grant_2 : decode cX1_grant 2 = .ok (.lconst 0, 1) := by decide +kernel
theorem dX1_grant_3 : decode cX1_grant 3 = .ok (.lconst 1, 1) := by decide +kernel
theorem dX1_grant_4 : decode cX1_grant 4 = .ok (.invokestatic 59, 3) := by decide +kernel
theorem dX1_grant_7 : decode cX1_grant 7 = .ok (.ifCond .eq 45, 3) := by decide +kernel
theorem dX1_grant_10 : decode cX1_grant 10 = .ok (.iload_n 2, 1) := by decide +kernel
theorem dX1_grant_11 : decode cX1_grant 11 = .ok (.i2l, 1) := by decide +kernel
theorem dX1_grant_12 : decode cX1_grant 12 = .ok (.ldc2_w 76, 3) := by decide +kernel
theorem dX1_grant_15 : decode cX1_grant 15 = .ok (.ldc2_w 78, 3) := by decide +kernel
theorem dX1_grant_18 : decode cX1_grant 18 = .ok (.invokestatic 59, 3) := by decide +kernel
theorem dX1_grant_21 : decode cX1_grant 21 = .ok (.ifCond .eq 31, 3) := by decide +kernel
theorem dX1_grant_24 : decode cX1_grant 24 = .ok (.iload_n 3, 1) := by decide +kernel
theorem dX1_grant_25 : decode cX1_grant 25 = .ok (.i2l, 1) := by decide +kernel
theorem dX1_grant_26 : decode cX1_grant 26 = .ok (.lconst 0, 1) := by decide +kernel
theorem dX1_grant_27 : decode cX1_grant 27 = .ok (.iload_n 2, 1) := by decide +kernel
theorem dX1_grant_28 : decode cX1_grant 28 = .ok (.bipush 8, 2) := by decide +kernel
theorem dX1_grant_30 : decode cX1_grant 30 = .ok (.if_icmp .ge 9, 3) := by decide +kernel
theorem dX1_grant_33 : decode cX1_grant 33 = .ok (.ldc2_w 80, 3) := by decide +kernel
theorem dX1_grant_36 : decode cX1_grant 36 = .ok (.goto 6, 3) := by decide +kernel
theorem dX1_grant_39 : decode cX1_grant 39 = .ok (.ldc2_w 1, 3) := by decide +kernel
theorem dX1_grant_42 : decode cX1_grant 42 = .ok (.invokestatic 59, 3) := by decide +kernel
theorem dX1_grant_45 : decode cX1_grant 45 = .ok (.ifCond .eq 7, 3) := by decide +kernel
theorem dX1_grant_48 : decode cX1_grant 48 = .ok (.iconst 1, 1) := by decide +kernel
theorem dX1_grant_49 : decode cX1_grant 49 = .ok (.goto 4, 3) := by decide +kernel
theorem dX1_grant_52 : decode cX1_grant 52 = .ok (.iconst 0, 1) := by decide +kernel
theorem dX1_grant_53 : decode cX1_grant 53 = .ok (.invokestatic 63, 3) := by decide +kernel
theorem dX1_grant_56 : decode cX1_grant 56 = .ok (.aload_n 0, 1) := by decide +kernel
theorem dX1_grant_57 : decode cX1_grant 57 = .ok (.getfield 82, 3) := by decide +kernel
theorem dX1_grant_60 : decode cX1_grant 60 = .ok (.ifCond .ne 7, 3) := by decide +kernel
theorem dX1_grant_63 : decode cX1_grant 63 = .ok (.iconst 1, 1) := by decide +kernel
theorem dX1_grant_64 : decode cX1_grant 64 = .ok (.goto 4, 3) := by decide +kernel
theorem dX1_grant_67 : decode cX1_grant 67 = .ok (.iconst 0, 1) := by decide +kernel
theorem dX1_grant_68 : decode cX1_grant 68 = .ok (.invokestatic 85, 3) := by decide +kernel
theorem dX1_grant_71 : decode cX1_grant 71 = .ok (.aload_n 0, 1) := by decide +kernel
theorem dX1_grant_72 : decode cX1_grant 72 = .ok (.getfield 26, 3) := by decide +kernel
theorem dX1_grant_75 : decode cX1_grant 75 = .ok (.iload_n 1, 1) := by decide +kernel
theorem dX1_grant_76 : decode cX1_grant 76 = .ok (.aaload, 1) := by decide +kernel
theorem dX1_grant_77 : decode cX1_grant 77 = .ok (.iload_n 2, 1) := by decide +kernel
theorem dX1_grant_78 : decode cX1_grant 78 = .ok (.iconst 4, 1) := by decide +kernel
theorem dX1_grant_79 : decode cX1_grant 79 = .ok (.isub, 1) := by decide +kernel
theorem dX1_grant_80 : decode cX1_grant 80 = .ok (.iload_n 3, 1) := by decide +kernel
theorem dX1_grant_81 : decode cX1_grant 81 = .ok (.iastore, 1) := by decide +kernel
theorem dX1_grant_82 : decode cX1_grant 82 = .ok (.aload_n 0, 1) := by decide +kernel
theorem dX1_grant_83 : decode cX1_grant 83 = .ok (.iload_n 1, 1) := by decide +kernel
theorem dX1_grant_84 : decode cX1_grant 84 = .ok (.invokevirtual 44, 3) := by decide +kernel
theorem dX1_grant_87 : decode cX1_grant 87 = .ok (.return_, 1) := by decide +kernel
theorem dX1_in_0 : decode cX1_in 0 = .ok (.lload_n 0, 1) := by decide +kernel
theorem dX1_in_1 : decode cX1_in 1 = .ok (.lload_n 2, 1) := by decide +kernel
theorem dX1_in_2 : decode cX1_in 2 = .ok (.lcmp, 1) := by decide +kernel
theorem dX1_in_3 : decode cX1_in 3 = .ok (.ifCond .lt 14, 3) := by decide +kernel
theorem dX1_in_6 : decode cX1_in 6 = .ok (.lload_n 0, 1) := by decide +kernel
theorem dX1_in_7 : decode cX1_in 7 = .ok (.lload 4, 2) := by decide +kernel
theorem dX1_in_9 : decode cX1_in 9 = .ok (.lcmp, 1) := by decide +kernel
theorem dX1_in_10 : decode cX1_in 10 = .ok (.ifCond .gt 7, 3) := by decide +kernel
theorem dX1_in_13 : decode cX1_in 13 = .ok (.iconst 1, 1) := by decide +kernel
theorem dX1_in_14 : decode cX1_in 14 = .ok (.goto 4, 3) := by decide +kernel
theorem dX1_in_17 : decode cX1_in 17 = .ok (.iconst 0, 1) := by decide +kernel
theorem dX1_in_18 : decode cX1_in 18 = .ok (.ireturn, 1) := by decide +kernel
theorem dX1_need_0 : decode cX1_need 0 = .ok (.iload_n 0, 1) := by decide +kernel
theorem dX1_need_1 : decode cX1_need 1 = .ok (.ifCond .ne 11, 3) := by decide +kernel
theorem dX1_need_4 : decode cX1_need 4 = .ok (.new 50, 3) := by decide +kernel
theorem dX1_need_7 : decode cX1_need 7 = .ok (.dup, 1) := by decide +kernel
theorem dX1_need_8 : decode cX1_need 8 = .ok (.invokespecial 52, 3) := by decide +kernel
theorem dX1_need_11 : decode cX1_need 11 = .ok (.athrow, 1) := by decide +kernel
theorem dX1_need_12 : decode cX1_need 12 = .ok (.return_, 1) := by decide +kernel
theorem dX1_ready_0 : decode cX1_ready 0 = .ok (.iload_n 0, 1) := by decide +kernel
theorem dX1_ready_1 : decode cX1_ready 1 = .ok (.ifCond .ne 11, 3) := by decide +kernel
theorem dX1_ready_4 : decode cX1_ready 4 = .ok (.new 53, 3) := by decide +kernel
theorem dX1_ready_7 : decode cX1_ready 7 = .ok (.dup, 1) := by decide +kernel
theorem dX1_ready_8 : decode cX1_ready 8 = .ok (.invokespecial 55, 3) := by decide +kernel
theorem dX1_ready_11 : decode cX1_ready 11 = .ok (.athrow, 1) := by decide +kernel
theorem dX1_ready_12 : decode cX1_ready 12 = .ok (.return_, 1) := by decide +kernel
theorem dX1_join_0 : decode cX1_join 0 = .ok (.aload_n 0, 1) := by decide +kernel
theorem dX1_join_1 : decode cX1_join 1 = .ok (.getfield 82, 3) := by decide +kernel
theorem dX1_join_4 : decode cX1_join 4 = .ok (.ifCond .ne 7, 3) := by decide +kernel
theorem dX1_join_7 : decode cX1_join 7 = .ok (.iconst 1, 1) := by decide +kernel
theorem dX1_join_8 : decode cX1_join 8 = .ok (.goto 4, 3) := by decide +kernel
theorem dX1_join_11 : decode cX1_join 11 = .ok (.iconst 0, 1) := by decide +kernel
theorem dX1_join_12 : decode cX1_join 12 = .ok (.invokestatic 85, 3) := by decide +kernel
theorem dX1_join_15 : decode cX1_join 15 = .ok (.aload_n 0, 1) := by decide +kernel
theorem dX1_join_16 : decode cX1_join 16 = .ok (.iconst 1, 1) := by decide +kernel
theorem dX1_join_17 : decode cX1_join 17 = .ok (.putfield 82, 3) := by decide +kernel
theorem dX1_join_20 : decode cX1_join 20 = .ok (.iconst 0, 1) := by decide +kernel
theorem dX1_join_21 : decode cX1_join 21 = .ok (.istore_n 1, 1) := by decide +kernel
theorem dX1_join_22 : decode cX1_join 22 = .ok (.iload_n 1, 1) := by decide +kernel
theorem dX1_join_23 : decode cX1_join 23 = .ok (.iconst 2, 1) := by decide +kernel
theorem dX1_join_24 : decode cX1_join 24 = .ok (.if_icmp .ge 51, 3) := by decide +kernel
theorem dX1_join_27 : decode cX1_join 27 = .ok (.aload_n 0, 1) := by decide +kernel
theorem dX1_join_28 : decode cX1_join 28 = .ok (.getfield 26, 3) := by decide +kernel
theorem dX1_join_31 : decode cX1_join 31 = .ok (.iload_n 1, 1) := by decide +kernel
theorem dX1_join_32 : decode cX1_join 32 = .ok (.aaload, 1) := by decide +kernel
theorem dX1_join_33 : decode cX1_join 33 = .ok (.astore_n 2, 1) := by decide +kernel
theorem dX1_join_34 : decode cX1_join 34 = .ok (.aload_n 0, 1) := by decide +kernel
theorem dX1_join_35 : decode cX1_join 35 = .ok (.getfield 18, 3) := by decide +kernel
theorem dX1_join_38 : decode cX1_join 38 = .ok (.iconst 1, 1) := by decide +kernel
theorem dX1_join_39 : decode cX1_join 39 = .ok (.iload_n 1, 1) := by decide +kernel
theorem dX1_join_40 : decode cX1_join 40 = .ok (.isub, 1) := by decide +kernel
theorem dX1_join_41 : decode cX1_join 41 = .ok (.aaload, 1) := by decide +kernel
theorem dX1_join_42 : decode cX1_join 42 = .ok (.aload_n 2, 1) := by decide +kernel
theorem dX1_join_43 : decode cX1_join 43 = .ok (.iconst 0, 1) := by decide +kernel
theorem dX1_join_44 : decode cX1_join 44 = .ok (.iaload, 1) := by decide +kernel
theorem dX1_join_45 : decode cX1_join 45 = .ok (.i2l, 1) := by decide +kernel
theorem dX1_join_46 : decode cX1_join 46 = .ok (.aload_n 2, 1) := by decide +kernel
theorem dX1_join_47 : decode cX1_join 47 = .ok (.iconst 1, 1) := by decide +kernel
theorem dX1_join_48 : decode cX1_join 48 = .ok (.iaload, 1) := by decide +kernel
theorem dX1_join_49 : decode cX1_join 49 = .ok (.i2l, 1) := by decide +kernel
theorem dX1_join_50 : decode cX1_join 50 = .ok (.aload_n 2, 1) := by decide +kernel
theorem dX1_join_51 : decode cX1_join 51 = .ok (.iconst 2, 1) := by decide +kernel
theorem dX1_join_52 : decode cX1_join 52 = .ok (.iaload, 1) := by decide +kernel
theorem dX1_join_53 : decode cX1_join 53 = .ok (.i2l, 1) := by decide +kernel
theorem dX1_join_54 : decode cX1_join 54 = .ok (.aload_n 2, 1) := by decide +kernel
theorem dX1_join_55 : decode cX1_join 55 = .ok (.iconst 3, 1) := by decide +kernel
theorem dX1_join_56 : decode cX1_join 56 = .ok (.iaload, 1) := by decide +kernel
theorem dX1_join_57 : decode cX1_join 57 = .ok (.i2l, 1) := by decide +kernel
theorem dX1_join_58 : decode cX1_join 58 = .ok (.aload_n 2, 1) := by decide +kernel
theorem dX1_join_59 : decode cX1_join 59 = .ok (.iconst 4, 1) := by decide +kernel
theorem dX1_join_60 : decode cX1_join 60 = .ok (.iaload, 1) := by decide +kernel
theorem dX1_join_61 : decode cX1_join 61 = .ok (.i2l, 1) := by decide +kernel
theorem dX1_join_62 : decode cX1_join 62 = .ok (.aload_n 2, 1) := by decide +kernel
theorem dX1_join_63 : decode cX1_join 63 = .ok (.iconst 5, 1) := by decide +kernel
theorem dX1_join_64 : decode cX1_join 64 = .ok (.iaload, 1) := by decide +kernel
theorem dX1_join_65 : decode cX1_join 65 = .ok (.i2l, 1) := by decide +kernel
theorem dX1_join_66 : decode cX1_join 66 = .ok (.invokevirtual 88, 3) := by decide +kernel
theorem dX1_join_69 : decode cX1_join 69 = .ok (.iinc 1 1, 3) := by decide +kernel
theorem dX1_join_72 : decode cX1_join 72 = .ok (.goto (-50), 3) := by decide +kernel
theorem dX1_join_75 : decode cX1_join 75 = .ok (.return_, 1) := by decide +kernel
theorem dX1_feed_0 : decode cX1_feed 0 = .ok (.iload_n 1, 1) := by decide +kernel
theorem dX1_feed_1 : decode cX1_feed 1 = .ok (.i2l, 1) := by decide +kernel
theorem dX1_feed_2 : decode cX1_feed 2 = .ok (.lconst 1, 1) := by decide +kernel
theorem dX1_feed_3 : decode cX1_feed 3 = .ok (.ldc2_w 92, 3) := by decide +kernel
theorem dX1_feed_6 : decode cX1_feed 6 = .ok (.invokestatic 59, 3) := by decide +kernel
theorem dX1_feed_9 : decode cX1_feed 9 = .ok (.invokestatic 63, 3) := by decide +kernel
theorem dX1_feed_12 : decode cX1_feed 12 = .ok (.aload_n 0, 1) := by decide +kernel
theorem dX1_feed_13 : decode cX1_feed 13 = .ok (.getfield 94, 3) := by decide +kernel
theorem dX1_feed_16 : decode cX1_feed 16 = .ok (.iload_n 1, 1) := by decide +kernel
theorem dX1_feed_17 : decode cX1_feed 17 = .ok (.iadd, 1) := by decide +kernel
theorem dX1_feed_18 : decode cX1_feed 18 = .ok (.sipush 2048, 3) := by decide +kernel
theorem dX1_feed_21 : decode cX1_feed 21 = .ok (.if_icmp .gt 7, 3) := by decide +kernel
theorem dX1_feed_24 : decode cX1_feed 24 = .ok (.iconst 1, 1) := by decide +kernel
theorem dX1_feed_25 : decode cX1_feed 25 = .ok (.goto 4, 3) := by decide +kernel
theorem dX1_feed_28 : decode cX1_feed 28 = .ok (.iconst 0, 1) := by decide +kernel
theorem dX1_feed_29 : decode cX1_feed 29 = .ok (.invokestatic 85, 3) := by decide +kernel
theorem dX1_feed_32 : decode cX1_feed 32 = .ok (.iconst 0, 1) := by decide +kernel
theorem dX1_feed_33 : decode cX1_feed 33 = .ok (.istore 4, 2) := by decide +kernel
theorem dX1_feed_35 : decode cX1_feed 35 = .ok (.iload 4, 2) := by decide +kernel
theorem dX1_feed_37 : decode cX1_feed 37 = .ok (.iload_n 1, 1) := by decide +kernel
theorem dX1_feed_38 : decode cX1_feed 38 = .ok (.if_icmp .ge 34, 3) := by decide +kernel
theorem dX1_feed_41 : decode cX1_feed 41 = .ok (.aload_n 0, 1) := by decide +kernel
theorem dX1_feed_42 : decode cX1_feed 42 = .ok (.getfield 36, 3) := by decide +kernel
theorem dX1_feed_45 : decode cX1_feed 45 = .ok (.aload_n 0, 1) := by decide +kernel
theorem dX1_feed_46 : decode cX1_feed 46 = .ok (.dup, 1) := by decide +kernel
theorem dX1_feed_47 : decode cX1_feed 47 = .ok (.getfield 94, 3) := by decide +kernel
theorem dX1_feed_50 : decode cX1_feed 50 = .ok (.dup_x1, 1) := by decide +kernel
theorem dX1_feed_51 : decode cX1_feed 51 = .ok (.iconst 1, 1) := by decide +kernel
theorem dX1_feed_52 : decode cX1_feed 52 = .ok (.iadd, 1) := by decide +kernel
theorem dX1_feed_53 : decode cX1_feed 53 = .ok (.putfield 94, 3) := by decide +kernel
theorem dX1_feed_56 : decode cX1_feed 56 = .ok (.lload_n 2, 1) := by decide +kernel
theorem dX1_feed_57 : decode cX1_feed 57 = .ok (.bipush 8, 2) := by decide +kernel
theorem dX1_feed_59 : decode cX1_feed 59 = .ok (.iload 4, 2) := by decide +kernel
theorem dX1_feed_61 : decode cX1_feed 61 = .ok (.imul, 1) := by decide +kernel
theorem dX1_feed_62 : decode cX1_feed 62 = .ok (.lshr, 1) := by decide +kernel
theorem dX1_feed_63 : decode cX1_feed 63 = .ok (.l2i, 1) := by decide +kernel
theorem dX1_feed_64 : decode cX1_feed 64 = .ok (.i2b, 1) := by decide +kernel
theorem dX1_feed_65 : decode cX1_feed 65 = .ok (.bastore, 1) := by decide +kernel
theorem dX1_feed_66 : decode cX1_feed 66 = .ok (.iinc 4 1, 3) := by decide +kernel
theorem dX1_feed_69 : decode cX1_feed 69 = .ok (.goto (-34), 3) := by decide +kernel
theorem dX1_feed_72 : decode cX1_feed 72 = .ok (.aload_n 0, 1) := by decide +kernel
theorem dX1_feed_73 : decode cX1_feed 73 = .ok (.getfield 94, 3) := by decide +kernel
theorem dX1_feed_76 : decode cX1_feed 76 = .ok (.ireturn, 1) := by decide +kernel
theorem dX1_open_0 : decode cX1_open 0 = .ok (.aload_n 0, 1) := by decide +kernel
theorem dX1_open_1 : decode cX1_open 1 = .ok (.iload_n 1, 1) := by decide +kernel
theorem dX1_open_2 : decode cX1_open 2 = .ok (.invokevirtual 98, 3) := by decide +kernel
theorem dX1_open_5 : decode cX1_open 5 = .ok (.astore_n 3, 1) := by decide +kernel
theorem dX1_open_6 : decode cX1_open 6 = .ok (.aload_n 0, 1) := by decide +kernel
theorem dX1_open_7 : decode cX1_open 7 = .ok (.getfield 82, 3) := by decide +kernel
theorem dX1_open_10 : decode cX1_open 10 = .ok (.invokestatic 85, 3) := by decide +kernel
theorem dX1_open_13 : decode cX1_open 13 = .ok (.aload_n 3, 1) := by decide +kernel
theorem dX1_open_14 : decode cX1_open 14 = .ok (.iload_n 2, 1) := by decide +kernel
theorem dX1_open_15 : decode cX1_open 15 = .ok (.invokevirtual 102, 3) := by decide +kernel
theorem dX1_open_18 : decode cX1_open 18 = .ok (.ireturn, 1) := by decide +kernel
theorem dX1_hall_0 : decode cX1_hall 0 = .ok (.iload_n 1, 1) := by decide +kernel
theorem dX1_hall_1 : decode cX1_hall 1 = .ok (.i2l, 1) := by decide +kernel
theorem dX1_hall_2 : decode cX1_hall 2 = .ok (.lconst 0, 1) := by decide +kernel
theorem dX1_hall_3 : decode cX1_hall 3 = .ok (.lconst 1, 1) := by decide +kernel
theorem dX1_hall_4 : decode cX1_hall 4 = .ok (.invokestatic 59, 3) := by decide +kernel
theorem dX1_hall_7 : decode cX1_hall 7 = .ok (.invokestatic 63, 3) := by decide +kernel
theorem dX1_hall_10 : decode cX1_hall 10 = .ok (.aload_n 0, 1) := by decide +kernel
theorem dX1_hall_11 : decode cX1_hall 11 = .ok (.getfield 18, 3) := by decide +kernel
theorem dX1_hall_14 : decode cX1_hall 14 = .ok (.iload_n 1, 1) := by decide +kernel
theorem dX1_hall_15 : decode cX1_hall 15 = .ok (.aaload, 1) := by decide +kernel
theorem dX1_hall_16 : decode cX1_hall 16 = .ok (.areturn, 1) := by decide +kernel
theorem dX1_write_0 : decode cX1_write 0 = .ok (.aload_n 0, 1) := by decide +kernel
theorem dX1_write_1 : decode cX1_write 1 = .ok (.iload_n 1, 1) := by decide +kernel
theorem dX1_write_2 : decode cX1_write 2 = .ok (.invokevirtual 98, 3) := by decide +kernel
theorem dX1_write_5 : decode cX1_write 5 = .ok (.iload_n 2, 1) := by decide +kernel
theorem dX1_write_6 : decode cX1_write 6 = .ok (.aload_n 0, 1) := by decide +kernel
theorem dX1_write_7 : decode cX1_write 7 = .ok (.getfield 36, 3) := by decide +kernel
theorem dX1_write_10 : decode cX1_write 10 = .ok (.iconst 0, 1) := by decide +kernel
theorem dX1_write_11 : decode cX1_write 11 = .ok (.aload_n 0, 1) := by decide +kernel
theorem dX1_write_12 : decode cX1_write 12 = .ok (.getfield 94, 3) := by decide +kernel
theorem dX1_write_15 : decode cX1_write 15 = .ok (.invokevirtual 106, 3) := by decide +kernel
theorem dX1_write_18 : decode cX1_write 18 = .ok (.istore_n 3, 1) := by decide +kernel
theorem dX1_write_19 : decode cX1_write 19 = .ok (.aload_n 0, 1) := by decide +kernel
theorem dX1_write_20 : decode cX1_write 20 = .ok (.iconst 0, 1) := by decide +kernel
theorem dX1_write_21 : decode cX1_write 21 = .ok (.putfield 94, 3) := by decide +kernel
theorem dX1_write_24 : decode cX1_write 24 = .ok (.iload_n 3, 1) := by decide +kernel
theorem dX1_write_25 : decode cX1_write 25 = .ok (.ireturn, 1) := by decide +kernel
theorem dX1_finish_0 : decode cX1_finish 0 = .ok (.aload_n 0, 1) := by decide +kernel
theorem dX1_finish_1 : decode cX1_finish 1 = .ok (.iload_n 1, 1) := by decide +kernel
theorem dX1_finish_2 : decode cX1_finish 2 = .ok (.invokevirtual 98, 3) := by decide +kernel
theorem dX1_finish_5 : decode cX1_finish 5 = .ok (.iload_n 2, 1) := by decide +kernel
theorem dX1_finish_6 : decode cX1_finish 6 = .ok (.invokevirtual 110, 3) := by decide +kernel
theorem dX1_finish_9 : decode cX1_finish 9 = .ok (.ireturn, 1) := by decide +kernel
theorem dX1_reset_0 : decode cX1_reset 0 = .ok (.aload_n 0, 1) := by decide +kernel
theorem dX1_reset_1 : decode cX1_reset 1 = .ok (.iload_n 1, 1) := by decide +kernel
theorem dX1_reset_2 : decode cX1_reset 2 = .ok (.invokevirtual 98, 3) := by decide +kernel
theorem dX1_reset_5 : decode cX1_reset 5 = .ok (.astore 5, 2) := by decide +kernel
theorem dX1_reset_7 : decode cX1_reset 7 = .ok (.lload_n 3, 1) := by decide +kernel
theorem dX1_reset_8 : decode cX1_reset 8 = .ok (.lconst 0, 1) := by decide +kernel
theorem dX1_reset_9 : decode cX1_reset 9 = .ok (.ldc2_w 114, 3) := by decide +kernel
theorem dX1_reset_12 : decode cX1_reset 12 = .ok (.invokestatic 59, 3) := by decide +kernel
theorem dX1_reset_15 : decode cX1_reset 15 = .ok (.invokestatic 63, 3) := by decide +kernel
theorem dX1_reset_18 : decode cX1_reset 18 = .ok (.aload 5, 2) := by decide +kernel
theorem dX1_reset_20 : decode cX1_reset 20 = .ok (.iload_n 2, 1) := by decide +kernel
theorem dX1_reset_21 : decode cX1_reset 21 = .ok (.lload_n 3, 1) := by decide +kernel
theorem dX1_reset_22 : decode cX1_reset 22 = .ok (.invokevirtual 116, 3) := by decide +kernel
theorem dX1_reset_25 : decode cX1_reset 25 = .ok (.ireturn, 1) := by decide +kernel
theorem dX1_stop_0 : decode cX1_stop 0 = .ok (.aload_n 0, 1) := by decide +kernel
theorem dX1_stop_1 : decode cX1_stop 1 = .ok (.iload_n 1, 1) := by decide +kernel
theorem dX1_stop_2 : decode cX1_stop 2 = .ok (.invokevirtual 98, 3) := by decide +kernel
theorem dX1_stop_5 : decode cX1_stop 5 = .ok (.astore 5, 2) := by decide +kernel
theorem dX1_stop_7 : decode cX1_stop 7 = .ok (.lload_n 3, 1) := by decide +kernel
theorem dX1_stop_8 : decode cX1_stop 8 = .ok (.lconst 0, 1) := by decide +kernel
theorem dX1_stop_9 : decode cX1_stop 9 = .ok (.ldc2_w 114, 3) := by decide +kernel
theorem dX1_stop_12 : decode cX1_stop 12 = .ok (.invokestatic 59, 3) := by decide +kernel
theorem dX1_stop_15 : decode cX1_stop 15 = .ok (.invokestatic 63, 3) := by decide +kernel
theorem dX1_stop_18 : decode cX1_stop 18 = .ok (.aload 5, 2) := by decide +kernel
theorem dX1_stop_20 : decode cX1_stop 20 = .ok (.iload_n 2, 1) := by decide +kernel
theorem dX1_stop_21 : decode cX1_stop 21 = .ok (.lload_n 3, 1) := by decide +kernel
theorem dX1_stop_22 : decode cX1_stop 22 = .ok (.invokevirtual 120, 3) := by decide +kernel
theorem dX1_stop_25 : decode cX1_stop 25 = .ok (.ireturn, 1) := by decide +kernel
theorem dX1_read_0 : decode cX1_read 0 = .ok (.aload_n 0, 1) := by decide +kernel
theorem dX1_read_1 : decode cX1_read 1 = .ok (.iload_n 1, 1) := by decide +kernel
theorem dX1_read_2 : decode cX1_read 2 = .ok (.invokevirtual 98, 3) := by decide +kernel
theorem dX1_read_5 : decode cX1_read 5 = .ok (.astore 4, 2) := by decide +kernel
theorem dX1_read_7 : decode cX1_read 7 = .ok (.iload_n 3, 1) := by decide +kernel
theorem dX1_read_8 : decode cX1_read 8 = .ok (.i2l, 1) := by decide +kernel
theorem dX1_read_9 : decode cX1_read 9 = .ok (.lconst 0, 1) := by decide +kernel
theorem dX1_read_10 : decode cX1_read 10 = .ok (.ldc2_w 123, 3) := by decide +kernel
theorem dX1_read_13 : decode cX1_read 13 = .ok (.invokestatic 59, 3) := by decide +kernel
theorem dX1_read_16 : decode cX1_read 16 = .ok (.invokestatic 63, 3) := by decide +kernel
theorem dX1_read_19 : decode cX1_read 19 = .ok (.aload 4, 2) := by decide +kernel
theorem dX1_read_21 : decode cX1_read 21 = .ok (.iload_n 2, 1) := by decide +kernel
theorem dX1_read_22 : decode cX1_read 22 = .ok (.aload_n 0, 1) := by decide +kernel
theorem dX1_read_23 : decode cX1_read 23 = .ok (.getfield 40, 3) := by decide +kernel
theorem dX1_read_26 : decode cX1_read 26 = .ok (.iconst 0, 1) := by decide +kernel
theorem dX1_read_27 : decode cX1_read 27 = .ok (.iload_n 3, 1) := by decide +kernel
theorem dX1_read_28 : decode cX1_read 28 = .ok (.invokevirtual 125, 3) := by decide +kernel
theorem dX1_read_31 : decode cX1_read 31 = .ok (.istore 5, 2) := by decide +kernel
theorem dX1_read_33 : decode cX1_read 33 = .ok (.aload_n 0, 1) := by decide +kernel
theorem dX1_read_34 : decode cX1_read 34 = .ok (.iload 5, 2) := by decide +kernel
theorem dX1_read_36 : decode cX1_read 36 = .ok (.iconst 0, 1) := by decide +kernel
theorem dX1_read_37 : decode cX1_read 37 = .ok (.invokestatic 128, 3) := by decide +kernel
theorem dX1_read_40 : decode cX1_read 40 = .ok (.putfield 134, 3) := by decide +kernel
theorem dX1_read_43 : decode cX1_read 43 = .ok (.iload 5, 2) := by decide +kernel
theorem dX1_read_45 : decode cX1_read 45 = .ok (.ireturn, 1) := by decide +kernel
theorem dX1_fill_0 : decode cX1_fill 0 = .ok (.aload_n 0, 1) := by decide +kernel
theorem dX1_fill_1 : decode cX1_fill 1 = .ok (.iload_n 1, 1) := by decide +kernel
theorem dX1_fill_2 : decode cX1_fill 2 = .ok (.invokevirtual 98, 3) := by decide +kernel
theorem dX1_fill_5 : decode cX1_fill 5 = .ok (.astore_n 3, 1) := by decide +kernel
theorem dX1_fill_6 : decode cX1_fill 6 = .ok (.iload_n 2, 1) := by decide +kernel
theorem dX1_fill_7 : decode cX1_fill 7 = .ok (.i2l, 1) := by decide +kernel
theorem dX1_fill_8 : decode cX1_fill 8 = .ok (.lconst 1, 1) := by decide +kernel
theorem dX1_fill_9 : decode cX1_fill 9 = .ok (.ldc2_w 137, 3) := by decide +kernel
theorem dX1_fill_12 : decode cX1_fill 12 = .ok (.invokestatic 59, 3) := by decide +kernel
theorem dX1_fill_15 : decode cX1_fill 15 = .ok (.invokestatic 63, 3) := by decide +kernel
theorem dX1_fill_18 : decode cX1_fill 18 = .ok (.iconst 0, 1) := by decide +kernel
theorem dX1_fill_19 : decode cX1_fill 19 = .ok (.istore 4, 2) := by decide +kernel
theorem dX1_fill_21 : decode cX1_fill 21 = .ok (.iload 4, 2) := by decide +kernel
theorem dX1_fill_23 : decode cX1_fill 23 = .ok (.bipush 64, 2) := by decide +kernel
theorem dX1_fill_25 : decode cX1_fill 25 = .ok (.if_icmp .ge 22, 3) := by decide +kernel
theorem dX1_fill_28 : decode cX1_fill 28 = .ok (.aload_n 0, 1) := by decide +kernel
theorem dX1_fill_29 : decode cX1_fill 29 = .ok (.getfield 32, 3) := by decide +kernel
theorem dX1_fill_32 : decode cX1_fill 32 = .ok (.iload 4, 2) := by decide +kernel
theorem dX1_fill_34 : decode cX1_fill 34 = .ok (.aaload, 1) := by decide +kernel
theorem dX1_fill_35 : decode cX1_fill 35 = .ok (.getfield 69, 3) := by decide +kernel
theorem dX1_fill_38 : decode cX1_fill 38 = .ok (.ifCond .eq 9, 3) := by decide +kernel
theorem dX1_fill_41 : decode cX1_fill 41 = .ok (.iinc 4 1, 3) := by decide +kernel
theorem dX1_fill_44 : decode cX1_fill 44 = .ok (.goto (-23), 3) := by decide +kernel
theorem dX1_fill_47 : decode cX1_fill 47 = .ok (.aload_n 0, 1) := by decide +kernel
theorem dX1_fill_48 : decode cX1_fill 48 = .ok (.getfield 82, 3) := by decide +kernel
theorem dX1_fill_51 : decode cX1_fill 51 = .ok (.ifCond .eq 14, 3) := by decide +kernel
theorem dX1_fill_54 : decode cX1_fill 54 = .ok (.iload 4, 2) := by decide +kernel
theorem dX1_fill_56 : decode cX1_fill 56 = .ok (.bipush 64, 2) := by decide +kernel
theorem dX1_fill_58 : decode cX1_fill 58 = .ok (.if_icmp .ge 7, 3) := by decide +kernel
theorem dX1_fill_61 : decode cX1_fill 61 = .ok (.iconst 1, 1) := by decide +kernel
theorem dX1_fill_62 : decode cX1_fill 62 = .ok (.goto 4, 3) := by decide +kernel
theorem dX1_fill_65 : decode cX1_fill 65 = .ok (.iconst 0, 1) := by decide +kernel
theorem dX1_fill_66 : decode cX1_fill 66 = .ok (.invokestatic 85, 3) := by decide +kernel
theorem dX1_fill_69 : decode cX1_fill 69 = .ok (.aload_n 3, 1) := by decide +kernel
theorem dX1_fill_70 : decode cX1_fill 70 = .ok (.iload_n 2, 1) := by decide +kernel
theorem dX1_fill_71 : decode cX1_fill 71 = .ok (.invokevirtual 139, 3) := by decide +kernel
theorem dX1_fill_74 : decode cX1_fill 74 = .ok (.ifCond .ne 5, 3) := by decide +kernel
theorem dX1_fill_77 : decode cX1_fill 77 = .ok (.iconst (-1), 1) := by decide +kernel
theorem dX1_fill_78 : decode cX1_fill 78 = .ok (.ireturn, 1) := by decide +kernel
theorem dX1_fill_79 : decode cX1_fill 79 = .ok (.aload_n 0, 1) := by decide +kernel
theorem dX1_fill_80 : decode cX1_fill 80 = .ok (.getfield 32, 3) := by decide +kernel
theorem dX1_fill_83 : decode cX1_fill 83 = .ok (.iload 4, 2) := by decide +kernel
theorem dX1_fill_85 : decode cX1_fill 85 = .ok (.aaload, 1) := by decide +kernel
theorem dX1_fill_86 : decode cX1_fill 86 = .ok (.astore 5, 2) := by decide +kernel
theorem dX1_fill_88 : decode cX1_fill 88 = .ok (.aload 5, 2) := by decide +kernel
theorem dX1_fill_90 : decode cX1_fill 90 = .ok (.iconst 1, 1) := by decide +kernel
theorem dX1_fill_91 : decode cX1_fill 91 = .ok (.putfield 69, 3) := by decide +kernel
theorem dX1_fill_94 : decode cX1_fill 94 = .ok (.aload 5, 2) := by decide +kernel
theorem dX1_fill_96 : decode cX1_fill 96 = .ok (.iconst 0, 1) := by decide +kernel
theorem dX1_fill_97 : decode cX1_fill 97 = .ok (.putfield 142, 3) := by decide +kernel
theorem dX1_fill_100 : decode cX1_fill 100 = .ok (.aload 5, 2) := by decide +kernel
theorem dX1_fill_102 : decode cX1_fill 102 = .ok (.iload_n 1, 1) := by decide +kernel
theorem dX1_fill_103 : decode cX1_fill 103 = .ok (.putfield 145, 3) := by decide +kernel
theorem dX1_fill_106 : decode cX1_fill 106 = .ok (.aload 5, 2) := by decide +kernel
theorem dX1_fill_108 : decode cX1_fill 108 = .ok (.aload_n 3, 1) := by decide +kernel
theorem dX1_fill_109 : decode cX1_fill 109 = .ok (.getfield 148, 3) := by decide +kernel
theorem dX1_fill_112 : decode cX1_fill 112 = .ok (.putfield 151, 3) := by decide +kernel
theorem dX1_fill_115 : decode cX1_fill 115 = .ok (.aload 5, 2) := by decide +kernel
theorem dX1_fill_117 : decode cX1_fill 117 = .ok (.aload_n 3, 1) := by decide +kernel
theorem dX1_fill_118 : decode cX1_fill 118 = .ok (.getfield 152, 3) := by decide +kernel
theorem dX1_fill_121 : decode cX1_fill 121 = .ok (.putfield 156, 3) := by decide +kernel
theorem dX1_fill_124 : decode cX1_fill 124 = .ok (.aload 5, 2) := by decide +kernel
theorem dX1_fill_126 : decode cX1_fill 126 = .ok (.aload_n 3, 1) := by decide +kernel
theorem dX1_fill_127 : decode cX1_fill 127 = .ok (.getfield 157, 3) := by decide +kernel
theorem dX1_fill_130 : decode cX1_fill 130 = .ok (.putfield 160, 3) := by decide +kernel
theorem dX1_fill_133 : decode cX1_fill 133 = .ok (.aload 5, 2) := by decide +kernel
theorem dX1_fill_135 : decode cX1_fill 135 = .ok (.aload_n 3, 1) := by decide +kernel
theorem dX1_fill_136 : decode cX1_fill 136 = .ok (.getfield 161, 3) := by decide +kernel
theorem dX1_fill_139 : decode cX1_fill 139 = .ok (.putfield 164, 3) := by decide +kernel
theorem dX1_fill_142 : decode cX1_fill 142 = .ok (.aload 5, 2) := by decide +kernel
theorem dX1_fill_144 : decode cX1_fill 144 = .ok (.aload_n 3, 1) := by decide +kernel
theorem dX1_fill_145 : decode cX1_fill 145 = .ok (.getfield 165, 3) := by decide +kernel
theorem dX1_fill_148 : decode cX1_fill 148 = .ok (.putfield 168, 3) := by decide +kernel
theorem dX1_fill_151 : decode cX1_fill 151 = .ok (.aload 5, 2) := by decide +kernel
theorem dX1_fill_153 : decode cX1_fill 153 = .ok (.aload_n 3, 1) := by decide +kernel
theorem dX1_fill_154 : decode cX1_fill 154 = .ok (.invokevirtual 169, 3) := by decide +kernel
theorem dX1_fill_157 : decode cX1_fill 157 = .ok (.putfield 173, 3) := by decide +kernel
theorem dX1_fill_160 : decode cX1_fill 160 = .ok (.aload_n 3, 1) := by decide +kernel
theorem dX1_fill_161 : decode cX1_fill 161 = .ok (.getfield 175, 3) := by decide +kernel
theorem dX1_fill_164 : decode cX1_fill 164 = .ok (.iconst 0, 1) := by decide +kernel
theorem dX1_fill_165 : decode cX1_fill 165 = .ok (.aload 5, 2) := by decide +kernel
theorem dX1_fill_167 : decode cX1_fill 167 = .ok (.getfield 178, 3) := by decide +kernel
theorem dX1_fill_170 : decode cX1_fill 170 = .ok (.iconst 0, 1) := by decide +kernel
theorem dX1_fill_171 : decode cX1_fill 171 = .ok (.aload_n 3, 1) := by decide +kernel
theorem dX1_fill_172 : decode cX1_fill 172 = .ok (.getfield 165, 3) := by decide +kernel
theorem dX1_fill_175 : decode cX1_fill 175 = .ok (.invokestatic 179, 3) := by decide +kernel
theorem dX1_fill_178 : decode cX1_fill 178 = .ok (.iload 4, 2) := by decide +kernel
theorem dX1_fill_180 : decode cX1_fill 180 = .ok (.ireturn, 1) := by decide +kernel
theorem dX1_sizeOf_0 : decode cX1_sizeOf 0 = .ok (.lload_n 0, 1) := by decide +kernel
theorem dX1_sizeOf_1 : decode cX1_sizeOf 1 = .ok (.ldc2_w 1, 3) := by decide +kernel
theorem dX1_sizeOf_4 : decode cX1_sizeOf 4 = .ok (.lcmp, 1) := by decide +kernel
theorem dX1_sizeOf_5 : decode cX1_sizeOf 5 = .ok (.ifCond .ge 7, 3) := by decide +kernel
theorem dX1_sizeOf_8 : decode cX1_sizeOf 8 = .ok (.iconst 1, 1) := by decide +kernel
theorem dX1_sizeOf_9 : decode cX1_sizeOf 9 = .ok (.goto 29, 3) := by decide +kernel
theorem dX1_sizeOf_12 : decode cX1_sizeOf 12 = .ok (.lload_n 0, 1) := by decide +kernel
theorem dX1_sizeOf_13 : decode cX1_sizeOf 13 = .ok (.ldc2_w 3, 3) := by decide +kernel
theorem dX1_sizeOf_16 : decode cX1_sizeOf 16 = .ok (.lcmp, 1) := by decide +kernel
theorem dX1_sizeOf_17 : decode cX1_sizeOf 17 = .ok (.ifCond .ge 7, 3) := by decide +kernel
theorem dX1_sizeOf_20 : decode cX1_sizeOf 20 = .ok (.iconst 2, 1) := by decide +kernel
theorem dX1_sizeOf_21 : decode cX1_sizeOf 21 = .ok (.goto 17, 3) := by decide +kernel
theorem dX1_sizeOf_24 : decode cX1_sizeOf 24 = .ok (.lload_n 0, 1) := by decide +kernel
theorem dX1_sizeOf_25 : decode cX1_sizeOf 25 = .ok (.ldc2_w 5, 3) := by decide +kernel
theorem dX1_sizeOf_28 : decode cX1_sizeOf 28 = .ok (.lcmp, 1) := by decide +kernel
theorem dX1_sizeOf_29 : decode cX1_sizeOf 29 = .ok (.ifCond .ge 7, 3) := by decide +kernel
theorem dX1_sizeOf_32 : decode cX1_sizeOf 32 = .ok (.iconst 4, 1) := by decide +kernel
theorem dX1_sizeOf_33 : decode cX1_sizeOf 33 = .ok (.goto 5, 3) := by decide +kernel
theorem dX1_sizeOf_36 : decode cX1_sizeOf 36 = .ok (.bipush 8, 2) := by decide +kernel
theorem dX1_sizeOf_38 : decode cX1_sizeOf 38 = .ok (.ireturn, 1) := by decide +kernel
theorem dX1_deliver_0 : decode cX1_deliver 0 = .ok (.aload_n 0, 1) := by decide +kernel
theorem dX1_deliver_1 : decode cX1_deliver 1 = .ok (.iload_n 1, 1) := by decide +kernel
theorem dX1_deliver_2 : decode cX1_deliver 2 = .ok (.invokevirtual 185, 3) := by decide +kernel
theorem dX1_deliver_5 : decode cX1_deliver 5 = .ok (.astore_n 2, 1) := by decide +kernel
theorem dX1_deliver_6 : decode cX1_deliver 6 = .ok (.aload_n 0, 1) := by decide +kernel
theorem dX1_deliver_7 : decode cX1_deliver 7 = .ok (.getfield 18, 3) := by decide +kernel
theorem dX1_deliver_10 : decode cX1_deliver 10 = .ok (.iconst 1, 1) := by decide +kernel
theorem dX1_deliver_11 : decode cX1_deliver 11 = .ok (.aload_n 2, 1) := by decide +kernel
theorem dX1_deliver_12 : decode cX1_deliver 12 = .ok (.getfield 145, 3) := by decide +kernel
theorem dX1_deliver_15 : decode cX1_deliver 15 = .ok (.isub, 1) := by decide +kernel
theorem dX1_deliver_16 : decode cX1_deliver 16 = .ok (.aaload, 1) := by decide +kernel
theorem dX1_deliver_17 : decode cX1_deliver 17 = .ok (.aload_n 2, 1) := by decide +kernel
theorem dX1_deliver_18 : decode cX1_deliver 18 = .ok (.getfield 151, 3) := by decide +kernel
theorem dX1_deliver_21 : decode cX1_deliver 21 = .ok (.aload_n 2, 1) := by decide +kernel
theorem dX1_deliver_22 : decode cX1_deliver 22 = .ok (.getfield 156, 3) := by decide +kernel
theorem dX1_deliver_25 : decode cX1_deliver 25 = .ok (.aload_n 2, 1) := by decide +kernel
theorem dX1_deliver_26 : decode cX1_deliver 26 = .ok (.getfield 160, 3) := by decide +kernel
theorem dX1_deliver_29 : decode cX1_deliver 29 = .ok (.aload_n 2, 1) := by decide +kernel
theorem dX1_deliver_30 : decode cX1_deliver 30 = .ok (.getfield 164, 3) := by decide +kernel
theorem dX1_deliver_33 : decode cX1_deliver 33 = .ok (.aload_n 2, 1) := by decide +kernel
theorem dX1_deliver_34 : decode cX1_deliver 34 = .ok (.getfield 178, 3) := by decide +kernel
theorem dX1_deliver_37 : decode cX1_deliver 37 = .ok (.iconst 0, 1) := by decide +kernel
theorem dX1_deliver_38 : decode cX1_deliver 38 = .ok (.aload_n 2, 1) := by decide +kernel
theorem dX1_deliver_39 : decode cX1_deliver 39 = .ok (.getfield 168, 3) := by decide +kernel
theorem dX1_deliver_42 : decode cX1_deliver 42 = .ok (.invokevirtual 189, 3) := by decide +kernel
theorem dX1_deliver_45 : decode cX1_deliver 45 = .ok (.istore_n 3, 1) := by decide +kernel
theorem dX1_deliver_46 : decode cX1_deliver 46 = .ok (.aload_n 2, 1) := by decide +kernel
theorem dX1_deliver_47 : decode cX1_deliver 47 = .ok (.aload_n 2, 1) := by decide +kernel
theorem dX1_deliver_48 : decode cX1_deliver 48 = .ok (.getfield 142, 3) := by decide +kernel
theorem dX1_deliver_51 : decode cX1_deliver 51 = .ok (.ifCond .ne 7, 3) := by decide +kernel
theorem dX1_deliver_54 : decode cX1_deliver 54 = .ok (.iload_n 3, 1) := by decide +kernel
theorem dX1_deliver_55 : decode cX1_deliver 55 = .ok (.ifCond .ne 7, 3) := by decide +kernel
theorem dX1_deliver_58 : decode cX1_deliver 58 = .ok (.iconst 1, 1) := by decide +kernel
theorem dX1_deliver_59 : decode cX1_deliver 59 = .ok (.goto 4, 3) := by decide +kernel
theorem dX1_deliver_62 : decode cX1_deliver 62 = .ok (.iconst 0, 1) := by decide +kernel
theorem dX1_deliver_63 : decode cX1_deliver 63 = .ok (.putfield 142, 3) := by decide +kernel
theorem dX1_deliver_66 : decode cX1_deliver 66 = .ok (.iload_n 3, 1) := by decide +kernel
theorem dX1_deliver_67 : decode cX1_deliver 67 = .ok (.ireturn, 1) := by decide +kernel
theorem dX1_at_0 : decode cX1_at 0 = .ok (.iload_n 1, 1) := by decide +kernel
theorem dX1_at_1 : decode cX1_at 1 = .ok (.i2l, 1) := by decide +kernel
theorem dX1_at_2 : decode cX1_at 2 = .ok (.lconst 0, 1) := by decide +kernel
theorem dX1_at_3 : decode cX1_at 3 = .ok (.ldc2_w 67, 3) := by decide +kernel
theorem dX1_at_6 : decode cX1_at 6 = .ok (.invokestatic 59, 3) := by decide +kernel
theorem dX1_at_9 : decode cX1_at 9 = .ok (.ifCond .eq 19, 3) := by decide +kernel
theorem dX1_at_12 : decode cX1_at 12 = .ok (.aload_n 0, 1) := by decide +kernel
theorem dX1_at_13 : decode cX1_at 13 = .ok (.getfield 32, 3) := by decide +kernel
theorem dX1_at_16 : decode cX1_at 16 = .ok (.iload_n 1, 1) := by decide +kernel
theorem dX1_at_17 : decode cX1_at 17 = .ok (.aaload, 1) := by decide +kernel
theorem dX1_at_18 : decode cX1_at 18 = .ok (.getfield 69, 3) := by decide +kernel
theorem dX1_at_21 : decode cX1_at 21 = .ok (.ifCond .eq 7, 3) := by decide +kernel
theorem dX1_at_24 : decode cX1_at 24 = .ok (.iconst 1, 1) := by decide +kernel
theorem dX1_at_25 : decode cX1_at 25 = .ok (.goto 4, 3) := by decide +kernel
theorem dX1_at_28 : decode cX1_at 28 = .ok (.iconst 0, 1) := by decide +kernel
theorem dX1_at_29 : decode cX1_at 29 = .ok (.invokestatic 73, 3) := by decide +kernel
theorem dX1_at_32 : decode cX1_at 32 = .ok (.aload_n 0, 1) := by decide +kernel
theorem dX1_at_33 : decode cX1_at 33 = .ok (.getfield 32, 3) := by decide +kernel
theorem dX1_at_36 : decode cX1_at 36 = .ok (.iload_n 1, 1) := by decide +kernel
theorem dX1_at_37 : decode cX1_at 37 = .ok (.aaload, 1) := by decide +kernel
theorem dX1_at_38 : decode cX1_at 38 = .ok (.areturn, 1) := by decide +kernel
theorem dX1_there_0 : decode cX1_there 0 = .ok (.iload_n 0, 1) := by decide +kernel
theorem dX1_there_1 : decode cX1_there 1 = .ok (.ifCond .ne 11, 3) := by decide +kernel
theorem dX1_there_4 : decode cX1_there 4 = .ok (.new 56, 3) := by decide +kernel
theorem dX1_there_7 : decode cX1_there 7 = .ok (.dup, 1) := by decide +kernel
theorem dX1_there_8 : decode cX1_there 8 = .ok (.invokespecial 58, 3) := by decide +kernel
theorem dX1_there_11 : decode cX1_there 11 = .ok (.athrow, 1) := by decide +kernel
theorem dX1_there_12 : decode cX1_there 12 = .ok (.return_, 1) := by decide +kernel
theorem dX1_gone_0 : decode cX1_gone 0 = .ok (.aload_n 0, 1) := by decide +kernel
theorem dX1_gone_1 : decode cX1_gone 1 = .ok (.iload_n 1, 1) := by decide +kernel
theorem dX1_gone_2 : decode cX1_gone 2 = .ok (.invokevirtual 185, 3) := by decide +kernel
theorem dX1_gone_5 : decode cX1_gone 5 = .ok (.astore_n 3, 1) := by decide +kernel
theorem dX1_gone_6 : decode cX1_gone 6 = .ok (.iload_n 2, 1) := by decide +kernel
theorem dX1_gone_7 : decode cX1_gone 7 = .ok (.ifCond .eq 10, 3) := by decide +kernel
theorem dX1_gone_10 : decode cX1_gone 10 = .ok (.aload_n 3, 1) := by decide +kernel
theorem dX1_gone_11 : decode cX1_gone 11 = .ok (.getfield 142, 3) := by decide +kernel
theorem dX1_gone_14 : decode cX1_gone 14 = .ok (.ifCond .eq 7, 3) := by decide +kernel
theorem dX1_gone_17 : decode cX1_gone 17 = .ok (.iconst 1, 1) := by decide +kernel
theorem dX1_gone_18 : decode cX1_gone 18 = .ok (.goto 4, 3) := by decide +kernel
theorem dX1_gone_21 : decode cX1_gone 21 = .ok (.iconst 0, 1) := by decide +kernel
theorem dX1_gone_22 : decode cX1_gone 22 = .ok (.invokestatic 85, 3) := by decide +kernel
theorem dX1_gone_25 : decode cX1_gone 25 = .ok (.aload_n 3, 1) := by decide +kernel
theorem dX1_gone_26 : decode cX1_gone 26 = .ok (.iconst 0, 1) := by decide +kernel
theorem dX1_gone_27 : decode cX1_gone 27 = .ok (.putfield 69, 3) := by decide +kernel
theorem dX1_gone_30 : decode cX1_gone 30 = .ok (.aload_n 0, 1) := by decide +kernel
theorem dX1_gone_31 : decode cX1_gone 31 = .ok (.getfield 18, 3) := by decide +kernel
theorem dX1_gone_34 : decode cX1_gone 34 = .ok (.aload_n 3, 1) := by decide +kernel
theorem dX1_gone_35 : decode cX1_gone 35 = .ok (.getfield 145, 3) := by decide +kernel
theorem dX1_gone_38 : decode cX1_gone 38 = .ok (.aaload, 1) := by decide +kernel
theorem dX1_gone_39 : decode cX1_gone 39 = .ok (.aload_n 3, 1) := by decide +kernel
theorem dX1_gone_40 : decode cX1_gone 40 = .ok (.getfield 151, 3) := by decide +kernel
theorem dX1_gone_43 : decode cX1_gone 43 = .ok (.aload_n 3, 1) := by decide +kernel
theorem dX1_gone_44 : decode cX1_gone 44 = .ok (.getfield 156, 3) := by decide +kernel
theorem dX1_gone_47 : decode cX1_gone 47 = .ok (.aload_n 3, 1) := by decide +kernel
theorem dX1_gone_48 : decode cX1_gone 48 = .ok (.getfield 160, 3) := by decide +kernel
theorem dX1_gone_51 : decode cX1_gone 51 = .ok (.aload_n 3, 1) := by decide +kernel
theorem dX1_gone_52 : decode cX1_gone 52 = .ok (.getfield 168, 3) := by decide +kernel
theorem dX1_gone_55 : decode cX1_gone 55 = .ok (.aload_n 3, 1) := by decide +kernel
theorem dX1_gone_56 : decode cX1_gone 56 = .ok (.getfield 164, 3) := by decide +kernel
theorem dX1_gone_59 : decode cX1_gone 59 = .ok (.iload_n 2, 1) := by decide +kernel
theorem dX1_gone_60 : decode cX1_gone 60 = .ok (.invokevirtual 193, 3) := by decide +kernel
theorem dX1_gone_63 : decode cX1_gone 63 = .ok (.return_, 1) := by decide +kernel
theorem dX1_take_0 : decode cX1_take 0 = .ok (.aload_n 0, 1) := by decide +kernel
theorem dX1_take_1 : decode cX1_take 1 = .ok (.iload_n 1, 1) := by decide +kernel
theorem dX1_take_2 : decode cX1_take 2 = .ok (.invokevirtual 98, 3) := by decide +kernel
theorem dX1_take_5 : decode cX1_take 5 = .ok (.astore 9, 2) := by decide +kernel
theorem dX1_take_7 : decode cX1_take 7 = .ok (.iload_n 2, 1) := by decide +kernel
theorem dX1_take_8 : decode cX1_take 8 = .ok (.iconst 4, 1) := by decide +kernel
theorem dX1_take_9 : decode cX1_take 9 = .ok (.if_icmp .eq 28, 3) := by decide +kernel
theorem dX1_take_12 : decode cX1_take 12 = .ok (.iload_n 2, 1) := by decide +kernel
theorem dX1_take_13 : decode cX1_take 13 = .ok (.iconst 5, 1) := by decide +kernel
theorem dX1_take_14 : decode cX1_take 14 = .ok (.if_icmp .eq 23, 3) := by decide +kernel
theorem dX1_take_17 : decode cX1_take 17 = .ok (.iload_n 2, 1) := by decide +kernel
theorem dX1_take_18 : decode cX1_take 18 = .ok (.bipush 8, 2) := by decide +kernel
theorem dX1_take_20 : decode cX1_take 20 = .ok (.if_icmp .eq 17, 3) := by decide +kernel
theorem dX1_take_23 : decode cX1_take 23 = .ok (.iload_n 2, 1) := by decide +kernel
theorem dX1_take_24 : decode cX1_take 24 = .ok (.i2l, 1) := by decide +kernel
theorem dX1_take_25 : decode cX1_take 25 = .ok (.ldc2_w 197, 3) := by decide +kernel
theorem dX1_take_28 : decode cX1_take 28 = .ok (.ldc2_w 199, 3) := by decide +kernel
theorem dX1_take_31 : decode cX1_take 31 = .ok (.invokestatic 59, 3) := by decide +kernel
theorem dX1_take_34 : decode cX1_take 34 = .ok (.ifCond .eq 7, 3) := by decide +kernel
theorem dX1_take_37 : decode cX1_take 37 = .ok (.iconst 1, 1) := by decide +kernel
theorem dX1_take_38 : decode cX1_take 38 = .ok (.goto 4, 3) := by decide +kernel
theorem dX1_take_41 : decode cX1_take 41 = .ok (.iconst 0, 1) := by decide +kernel
theorem dX1_take_42 : decode cX1_take 42 = .ok (.invokestatic 63, 3) := by decide +kernel
theorem dX1_take_45 : decode cX1_take 45 = .ok (.lload_n 3, 1) := by decide +kernel
theorem dX1_take_46 : decode cX1_take 46 = .ok (.lconst 0, 1) := by decide +kernel
theorem dX1_take_47 : decode cX1_take 47 = .ok (.ldc2_w 114, 3) := by decide +kernel
theorem dX1_take_50 : decode cX1_take 50 = .ok (.invokestatic 59, 3) := by decide +kernel
theorem dX1_take_53 : decode cX1_take 53 = .ok (.ifCond .eq 53, 3) := by decide +kernel
theorem dX1_take_56 : decode cX1_take 56 = .ok (.lload 5, 2) := by decide +kernel
theorem dX1_take_58 : decode cX1_take 58 = .ok (.lconst 0, 1) := by decide +kernel
theorem dX1_take_59 : decode cX1_take 59 = .ok (.iload_n 2, 1) := by decide +kernel
theorem dX1_take_60 : decode cX1_take 60 = .ok (.bipush 8, 2) := by decide +kernel
theorem dX1_take_62 : decode cX1_take 62 = .ok (.if_icmp .ne 9, 3) := by decide +kernel
theorem dX1_take_65 : decode cX1_take 65 = .ok (.ldc2_w 201, 3) := by decide +kernel
theorem dX1_take_68 : decode cX1_take 68 = .ok (.goto 6, 3) := by decide +kernel
theorem dX1_take_71 : decode cX1_take 71 = .ok (.ldc2_w 114, 3) := by decide +kernel
theorem dX1_take_74 : decode cX1_take 74 = .ok (.invokestatic 59, 3) := by decide +kernel
theorem dX1_take_77 : decode cX1_take 77 = .ok (.ifCond .eq 29, 3) := by decide +kernel
theorem dX1_take_80 : decode cX1_take 80 = .ok (.lload 7, 2) := by decide +kernel
theorem dX1_take_82 : decode cX1_take 82 = .ok (.lconst 0, 1) := by decide +kernel
theorem dX1_take_83 : decode cX1_take 83 = .ok (.iload_n 2, 1) := by decide +kernel
theorem dX1_take_84 : decode cX1_take 84 = .ok (.bipush 8, 2) := by decide +kernel
theorem dX1_take_86 : decode cX1_take 86 = .ok (.if_icmp .ne 7, 3) := by decide +kernel
theorem dX1_take_89 : decode cX1_take 89 = .ok (.lconst 1, 1) := by decide +kernel
theorem dX1_take_90 : decode cX1_take 90 = .ok (.goto 6, 3) := by decide +kernel
theorem dX1_take_93 : decode cX1_take 93 = .ok (.ldc2_w 114, 3) := by decide +kernel
theorem dX1_take_96 : decode cX1_take 96 = .ok (.invokestatic 59, 3) := by decide +kernel
theorem dX1_take_99 : decode cX1_take 99 = .ok (.ifCond .eq 7, 3) := by decide +kernel
theorem dX1_take_102 : decode cX1_take 102 = .ok (.iconst 1, 1) := by decide +kernel
theorem dX1_take_103 : decode cX1_take 103 = .ok (.goto 4, 3) := by decide +kernel
theorem dX1_take_106 : decode cX1_take 106 = .ok (.iconst 0, 1) := by decide +kernel
theorem dX1_take_107 : decode cX1_take 107 = .ok (.invokestatic 63, 3) := by decide +kernel
theorem dX1_take_110 : decode cX1_take 110 = .ok (.aload_n 0, 1) := by decide +kernel
theorem dX1_take_111 : decode cX1_take 111 = .ok (.getfield 82, 3) := by decide +kernel
theorem dX1_take_114 : decode cX1_take 114 = .ok (.invokestatic 85, 3) := by decide +kernel
theorem dX1_take_117 : decode cX1_take 117 = .ok (.aload 9, 2) := by decide +kernel
theorem dX1_take_119 : decode cX1_take 119 = .ok (.iload_n 2, 1) := by decide +kernel
theorem dX1_take_120 : decode cX1_take 120 = .ok (.lload_n 3, 1) := by decide +kernel
theorem dX1_take_121 : decode cX1_take 121 = .ok (.lload 5, 2) := by decide +kernel
theorem dX1_take_123 : decode cX1_take 123 = .ok (.lload 7, 2) := by decide +kernel
theorem dX1_take_125 : decode cX1_take 125 = .ok (.aload_n 0, 1) := by decide +kernel
theorem dX1_take_126 : decode cX1_take 126 = .ok (.getfield 36, 3) := by decide +kernel
theorem dX1_take_129 : decode cX1_take 129 = .ok (.iconst 0, 1) := by decide +kernel
theorem dX1_take_130 : decode cX1_take 130 = .ok (.aload_n 0, 1) := by decide +kernel
theorem dX1_take_131 : decode cX1_take 131 = .ok (.getfield 94, 3) := by decide +kernel
theorem dX1_take_134 : decode cX1_take 134 = .ok (.invokevirtual 189, 3) := by decide +kernel
theorem dX1_take_137 : decode cX1_take 137 = .ok (.istore 10, 2) := by decide +kernel
theorem dX1_take_139 : decode cX1_take 139 = .ok (.aload_n 0, 1) := by decide +kernel
theorem dX1_take_140 : decode cX1_take 140 = .ok (.iconst 0, 1) := by decide +kernel
theorem dX1_take_141 : decode cX1_take 141 = .ok (.putfield 94, 3) := by decide +kernel
theorem dX1_take_144 : decode cX1_take 144 = .ok (.iload 10, 2) := by decide +kernel
theorem dX1_take_146 : decode cX1_take 146 = .ok (.ireturn, 1) := by decide +kernel
theorem dX1_line_0 : decode cX1_line 0 = .ok (.aload_n 0, 1) := by decide +kernel
theorem dX1_line_1 : decode cX1_line 1 = .ok (.iload_n 1, 1) := by decide +kernel
theorem dX1_line_2 : decode cX1_line 2 = .ok (.invokevirtual 185, 3) := by decide +kernel
theorem dX1_line_5 : decode cX1_line 5 = .ok (.astore_n 3, 1) := by decide +kernel
theorem dX1_line_6 : decode cX1_line 6 = .ok (.iload_n 2, 1) := by decide +kernel
theorem dX1_line_7 : decode cX1_line 7 = .ok (.i2l, 1) := by decide +kernel
theorem dX1_line_8 : decode cX1_line 8 = .ok (.lconst 0, 1) := by decide +kernel
theorem dX1_line_9 : decode cX1_line 9 = .ok (.ldc2_w 203, 3) := by decide +kernel
theorem dX1_line_12 : decode cX1_line 12 = .ok (.invokestatic 59, 3) := by decide +kernel
theorem dX1_line_15 : decode cX1_line 15 = .ok (.invokestatic 73, 3) := by decide +kernel
theorem dX1_line_18 : decode cX1_line 18 = .ok (.iload_n 2, 1) := by decide +kernel
theorem dX1_line_19 : decode cX1_line 19 = .ok (.tableswitch 70 0 5 #[37, 43, 49, 54, 59, 64], 37) := by decide +kernel
theorem dX1_line_56 : decode cX1_line 56 = .ok (.aload_n 3, 1) := by decide +kernel
theorem dX1_line_57 : decode cX1_line 57 = .ok (.getfield 145, 3) := by decide +kernel
theorem dX1_line_60 : decode cX1_line 60 = .ok (.i2l, 1) := by decide +kernel
theorem dX1_line_61 : decode cX1_line 61 = .ok (.lreturn, 1) := by decide +kernel
theorem dX1_line_62 : decode cX1_line 62 = .ok (.aload_n 3, 1) := by decide +kernel
theorem dX1_line_63 : decode cX1_line 63 = .ok (.getfield 151, 3) := by decide +kernel
theorem dX1_line_66 : decode cX1_line 66 = .ok (.i2l, 1) := by decide +kernel
theorem dX1_line_67 : decode cX1_line 67 = .ok (.lreturn, 1) := by decide +kernel
theorem dX1_line_68 : decode cX1_line 68 = .ok (.aload_n 3, 1) := by decide +kernel
theorem dX1_line_69 : decode cX1_line 69 = .ok (.getfield 156, 3) := by decide +kernel
theorem dX1_line_72 : decode cX1_line 72 = .ok (.lreturn, 1) := by decide +kernel
theorem dX1_line_73 : decode cX1_line 73 = .ok (.aload_n 3, 1) := by decide +kernel
theorem dX1_line_74 : decode cX1_line 74 = .ok (.getfield 160, 3) := by decide +kernel
theorem dX1_line_77 : decode cX1_line 77 = .ok (.lreturn, 1) := by decide +kernel
theorem dX1_line_78 : decode cX1_line 78 = .ok (.aload_n 3, 1) := by decide +kernel
theorem dX1_line_79 : decode cX1_line 79 = .ok (.getfield 164, 3) := by decide +kernel
theorem dX1_line_82 : decode cX1_line 82 = .ok (.lreturn, 1) := by decide +kernel
theorem dX1_line_83 : decode cX1_line 83 = .ok (.aload_n 3, 1) := by decide +kernel
theorem dX1_line_84 : decode cX1_line 84 = .ok (.getfield 168, 3) := by decide +kernel
theorem dX1_line_87 : decode cX1_line 87 = .ok (.i2l, 1) := by decide +kernel
theorem dX1_line_88 : decode cX1_line 88 = .ok (.lreturn, 1) := by decide +kernel
theorem dX1_line_89 : decode cX1_line 89 = .ok (.aload_n 3, 1) := by decide +kernel
theorem dX1_line_90 : decode cX1_line 90 = .ok (.getfield 173, 3) := by decide +kernel
theorem dX1_line_93 : decode cX1_line 93 = .ok (.i2l, 1) := by decide +kernel
theorem dX1_line_94 : decode cX1_line 94 = .ok (.lreturn, 1) := by decide +kernel
theorem dX1_data_0 : decode cX1_data 0 = .ok (.aload_n 0, 1) := by decide +kernel
theorem dX1_data_1 : decode cX1_data 1 = .ok (.iload_n 1, 1) := by decide +kernel
theorem dX1_data_2 : decode cX1_data 2 = .ok (.invokevirtual 185, 3) := by decide +kernel
theorem dX1_data_5 : decode cX1_data 5 = .ok (.astore_n 3, 1) := by decide +kernel
theorem dX1_data_6 : decode cX1_data 6 = .ok (.iload_n 2, 1) := by decide +kernel
theorem dX1_data_7 : decode cX1_data 7 = .ok (.i2l, 1) := by decide +kernel
theorem dX1_data_8 : decode cX1_data 8 = .ok (.lconst 0, 1) := by decide +kernel
theorem dX1_data_9 : decode cX1_data 9 = .ok (.aload_n 3, 1) := by decide +kernel
theorem dX1_data_10 : decode cX1_data 10 = .ok (.getfield 168, 3) := by decide +kernel
theorem dX1_data_13 : decode cX1_data 13 = .ok (.i2l, 1) := by decide +kernel
theorem dX1_data_14 : decode cX1_data 14 = .ok (.lconst 1, 1) := by decide +kernel
theorem dX1_data_15 : decode cX1_data 15 = .ok (.lsub, 1) := by decide +kernel
theorem dX1_data_16 : decode cX1_data 16 = .ok (.invokestatic 59, 3) := by decide +kernel
theorem dX1_data_19 : decode cX1_data 19 = .ok (.invokestatic 73, 3) := by decide +kernel
theorem dX1_data_22 : decode cX1_data 22 = .ok (.aload_n 3, 1) := by decide +kernel
theorem dX1_data_23 : decode cX1_data 23 = .ok (.getfield 178, 3) := by decide +kernel
theorem dX1_data_26 : decode cX1_data 26 = .ok (.iload_n 2, 1) := by decide +kernel
theorem dX1_data_27 : decode cX1_data 27 = .ok (.baload, 1) := by decide +kernel
theorem dX1_data_28 : decode cX1_data 28 = .ok (.sipush 255, 3) := by decide +kernel
theorem dX1_data_31 : decode cX1_data 31 = .ok (.iand, 1) := by decide +kernel
theorem dX1_data_32 : decode cX1_data 32 = .ok (.ireturn, 1) := by decide +kernel
theorem dX1_outs_0 : decode cX1_outs 0 = .ok (.iload_n 1, 1) := by decide +kernel
theorem dX1_outs_1 : decode cX1_outs 1 = .ok (.i2l, 1) := by decide +kernel
theorem dX1_outs_2 : decode cX1_outs 2 = .ok (.lconst 0, 1) := by decide +kernel
theorem dX1_outs_3 : decode cX1_outs 3 = .ok (.aload_n 0, 1) := by decide +kernel
theorem dX1_outs_4 : decode cX1_outs 4 = .ok (.getfield 134, 3) := by decide +kernel
theorem dX1_outs_7 : decode cX1_outs 7 = .ok (.i2l, 1) := by decide +kernel
theorem dX1_outs_8 : decode cX1_outs 8 = .ok (.lconst 1, 1) := by decide +kernel
theorem dX1_outs_9 : decode cX1_outs 9 = .ok (.lsub, 1) := by decide +kernel
theorem dX1_outs_10 : decode cX1_outs 10 = .ok (.invokestatic 59, 3) := by decide +kernel
theorem dX1_outs_13 : decode cX1_outs 13 = .ok (.invokestatic 73, 3) := by decide +kernel
theorem dX1_outs_16 : decode cX1_outs 16 = .ok (.lconst 0, 1) := by decide +kernel
theorem dX1_outs_17 : decode cX1_outs 17 = .ok (.lstore_n 2, 1) := by decide +kernel
theorem dX1_outs_18 : decode cX1_outs 18 = .ok (.aload_n 0, 1) := by decide +kernel
theorem dX1_outs_19 : decode cX1_outs 19 = .ok (.getfield 134, 3) := by decide +kernel
theorem dX1_outs_22 : decode cX1_outs 22 = .ok (.iload_n 1, 1) := by decide +kernel
theorem dX1_outs_23 : decode cX1_outs 23 = .ok (.isub, 1) := by decide +kernel
theorem dX1_outs_24 : decode cX1_outs 24 = .ok (.bipush 8, 2) := by decide +kernel
theorem dX1_outs_26 : decode cX1_outs 26 = .ok (.invokestatic 205, 3) := by decide +kernel
theorem dX1_outs_29 : decode cX1_outs 29 = .ok (.iconst 1, 1) := by decide +kernel
theorem dX1_outs_30 : decode cX1_outs 30 = .ok (.isub, 1) := by decide +kernel
theorem dX1_outs_31 : decode cX1_outs 31 = .ok (.istore 4, 2) := by decide +kernel
theorem dX1_outs_33 : decode cX1_outs 33 = .ok (.iload 4, 2) := by decide +kernel
theorem dX1_outs_35 : decode cX1_outs 35 = .ok (.ifCond .lt 29, 3) := by decide +kernel
theorem dX1_outs_38 : decode cX1_outs 38 = .ok (.lload_n 2, 1) := by decide +kernel
theorem dX1_outs_39 : decode cX1_outs 39 = .ok (.bipush 8, 2) := by decide +kernel
theorem dX1_outs_41 : decode cX1_outs 41 = .ok (.lshl, 1) := by decide +kernel
theorem dX1_outs_42 : decode cX1_outs 42 = .ok (.aload_n 0, 1) := by decide +kernel
theorem dX1_outs_43 : decode cX1_outs 43 = .ok (.getfield 40, 3) := by decide +kernel
theorem dX1_outs_46 : decode cX1_outs 46 = .ok (.iload_n 1, 1) := by decide +kernel
theorem dX1_outs_47 : decode cX1_outs 47 = .ok (.iload 4, 2) := by decide +kernel
theorem dX1_outs_49 : decode cX1_outs 49 = .ok (.iadd, 1) := by decide +kernel
theorem dX1_outs_50 : decode cX1_outs 50 = .ok (.baload, 1) := by decide +kernel
theorem dX1_outs_51 : decode cX1_outs 51 = .ok (.i2l, 1) := by decide +kernel
theorem dX1_outs_52 : decode cX1_outs 52 = .ok (.ldc2_w 208, 3) := by decide +kernel
theorem dX1_outs_55 : decode cX1_outs 55 = .ok (.land, 1) := by decide +kernel
theorem dX1_outs_56 : decode cX1_outs 56 = .ok (.lor, 1) := by decide +kernel
theorem dX1_outs_57 : decode cX1_outs 57 = .ok (.lstore_n 2, 1) := by decide +kernel
theorem dX1_outs_58 : decode cX1_outs 58 = .ok (.iinc 4 (-1), 3) := by decide +kernel
theorem dX1_outs_61 : decode cX1_outs 61 = .ok (.goto (-28), 3) := by decide +kernel
theorem dX1_outs_64 : decode cX1_outs 64 = .ok (.lload_n 2, 1) := by decide +kernel
theorem dX1_outs_65 : decode cX1_outs 65 = .ok (.lreturn, 1) := by decide +kernel
theorem dX1_stream_0 : decode cX1_stream 0 = .ok (.aload_n 0, 1) := by decide +kernel
theorem dX1_stream_1 : decode cX1_stream 1 = .ok (.iload_n 1, 1) := by decide +kernel
theorem dX1_stream_2 : decode cX1_stream 2 = .ok (.invokevirtual 98, 3) := by decide +kernel
theorem dX1_stream_5 : decode cX1_stream 5 = .ok (.astore 4, 2) := by decide +kernel
theorem dX1_stream_7 : decode cX1_stream 7 = .ok (.iload_n 3, 1) := by decide +kernel
theorem dX1_stream_8 : decode cX1_stream 8 = .ok (.i2l, 1) := by decide +kernel
theorem dX1_stream_9 : decode cX1_stream 9 = .ok (.lconst 0, 1) := by decide +kernel
theorem dX1_stream_10 : decode cX1_stream 10 = .ok (.ldc2_w 210, 3) := by decide +kernel
theorem dX1_stream_13 : decode cX1_stream 13 = .ok (.invokestatic 59, 3) := by decide +kernel
theorem dX1_stream_16 : decode cX1_stream 16 = .ok (.invokestatic 63, 3) := by decide +kernel
theorem dX1_stream_19 : decode cX1_stream 19 = .ok (.aload 4, 2) := by decide +kernel
theorem dX1_stream_21 : decode cX1_stream 21 = .ok (.iload_n 2, 1) := by decide +kernel
theorem dX1_stream_22 : decode cX1_stream 22 = .ok (.iload_n 3, 1) := by decide +kernel
theorem dX1_stream_23 : decode cX1_stream 23 = .ok (.invokevirtual 212, 3) := by decide +kernel
theorem dX1_stream_26 : decode cX1_stream 26 = .ok (.lreturn, 1) := by decide +kernel
theorem dX1_side_0 : decode cX1_side 0 = .ok (.aload_n 0, 1) := by decide +kernel
theorem dX1_side_1 : decode cX1_side 1 = .ok (.iload_n 1, 1) := by decide +kernel
theorem dX1_side_2 : decode cX1_side 2 = .ok (.invokevirtual 98, 3) := by decide +kernel
theorem dX1_side_5 : decode cX1_side 5 = .ok (.astore_n 3, 1) := by decide +kernel
theorem dX1_side_6 : decode cX1_side 6 = .ok (.iload_n 2, 1) := by decide +kernel
theorem dX1_side_7 : decode cX1_side 7 = .ok (.i2l, 1) := by decide +kernel
theorem dX1_side_8 : decode cX1_side 8 = .ok (.lconst 0, 1) := by decide +kernel
theorem dX1_side_9 : decode cX1_side 9 = .ok (.ldc2_w 216, 3) := by decide +kernel
theorem dX1_side_12 : decode cX1_side 12 = .ok (.invokestatic 59, 3) := by decide +kernel
theorem dX1_side_15 : decode cX1_side 15 = .ok (.invokestatic 63, 3) := by decide +kernel
theorem dX1_side_18 : decode cX1_side 18 = .ok (.aload_n 3, 1) := by decide +kernel
theorem dX1_side_19 : decode cX1_side 19 = .ok (.iload_n 2, 1) := by decide +kernel
theorem dX1_side_20 : decode cX1_side 20 = .ok (.invokevirtual 218, 3) := by decide +kernel
theorem dX1_side_23 : decode cX1_side 23 = .ok (.lreturn, 1) := by decide +kernel
