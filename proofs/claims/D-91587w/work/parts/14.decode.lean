/-! decode rows of what is walked inside others -/
set_option maxRecDepth 100000
theorem dX8_no_0 : decode mi_X8_no.2.1 0 = .ok (.aload_n 0, 1) := by decide +kernel
theorem dX8_no_1 : decode mi_X8_no.2.1 1 = .ok (.iload_n 1, 1) := by decide +kernel
theorem dX8_no_2 : decode mi_X8_no.2.1 2 = .ok (.putfield 260, 3) := by decide +kernel
theorem dX8_no_5 : decode mi_X8_no.2.1 5 = .ok (.iconst 0, 1) := by decide +kernel
theorem dX8_no_6 : decode mi_X8_no.2.1 6 = .ok (.ireturn, 1) := by decide +kernel
theorem dX8_placed_0 : decode mi_X8_placed.2.1 0 = .ok (.aload_n 0, 1) := by decide +kernel
theorem dX8_placed_1 : decode mi_X8_placed.2.1 1 = .ok (.iload_n 1, 1) := by decide +kernel
theorem dX8_placed_2 : decode mi_X8_placed.2.1 2 = .ok (.invokevirtual 277, 3) := by decide +kernel
theorem dX8_placed_5 : decode mi_X8_placed.2.1 5 = .ok (.istore_n 3, 1) := by decide +kernel
theorem dX8_placed_6 : decode mi_X8_placed.2.1 6 = .ok (.iload_n 3, 1) := by decide +kernel
theorem dX8_placed_7 : decode mi_X8_placed.2.1 7 = .ok (.ifCond .le 7, 3) := by decide +kernel
theorem dX8_placed_10 : decode mi_X8_placed.2.1 10 = .ok (.iload_n 3, 1) := by decide +kernel
theorem dX8_placed_11 : decode mi_X8_placed.2.1 11 = .ok (.goto 22, 3) := by decide +kernel
theorem dX8_placed_14 : decode mi_X8_placed.2.1 14 = .ok (.iload_n 2, 1) := by decide +kernel
theorem dX8_placed_15 : decode mi_X8_placed.2.1 15 = .ok (.ifCond .lt 13, 3) := by decide +kernel
theorem dX8_placed_18 : decode mi_X8_placed.2.1 18 = .ok (.iload_n 2, 1) := by decide +kernel
theorem dX8_placed_19 : decode mi_X8_placed.2.1 19 = .ok (.aload_n 0, 1) := by decide +kernel
theorem dX8_placed_20 : decode mi_X8_placed.2.1 20 = .ok (.getfield 13, 3) := by decide +kernel
theorem dX8_placed_23 : decode mi_X8_placed.2.1 23 = .ok (.iload_n 1, 1) := by decide +kernel
theorem dX8_placed_24 : decode mi_X8_placed.2.1 24 = .ok (.iaload, 1) := by decide +kernel
theorem dX8_placed_25 : decode mi_X8_placed.2.1 25 = .ok (.if_icmp .lt 7, 3) := by decide +kernel
theorem dX8_placed_28 : decode mi_X8_placed.2.1 28 = .ok (.iconst 4, 1) := by decide +kernel
theorem dX8_placed_29 : decode mi_X8_placed.2.1 29 = .ok (.goto 4, 3) := by decide +kernel
theorem dX8_placed_32 : decode mi_X8_placed.2.1 32 = .ok (.iconst 0, 1) := by decide +kernel
theorem dX8_placed_33 : decode mi_X8_placed.2.1 33 = .ok (.ireturn, 1) := by decide +kernel
theorem dX8_trayed_0 : decode mi_X8_trayed.2.1 0 = .ok (.iload_n 1, 1) := by decide +kernel
theorem dX8_trayed_1 : decode mi_X8_trayed.2.1 1 = .ok (.ifCond .lt 8, 3) := by decide +kernel
theorem dX8_trayed_4 : decode mi_X8_trayed.2.1 4 = .ok (.iload_n 1, 1) := by decide +kernel
theorem dX8_trayed_5 : decode mi_X8_trayed.2.1 5 = .ok (.iconst 4, 1) := by decide +kernel
theorem dX8_trayed_6 : decode mi_X8_trayed.2.1 6 = .ok (.if_icmp .lt 7, 3) := by decide +kernel
theorem dX8_trayed_9 : decode mi_X8_trayed.2.1 9 = .ok (.iconst 1, 1) := by decide +kernel
theorem dX8_trayed_10 : decode mi_X8_trayed.2.1 10 = .ok (.goto 17, 3) := by decide +kernel
theorem dX8_trayed_13 : decode mi_X8_trayed.2.1 13 = .ok (.aload_n 0, 1) := by decide +kernel
theorem dX8_trayed_14 : decode mi_X8_trayed.2.1 14 = .ok (.getfield 13, 3) := by decide +kernel
theorem dX8_trayed_17 : decode mi_X8_trayed.2.1 17 = .ok (.iload_n 1, 1) := by decide +kernel
theorem dX8_trayed_18 : decode mi_X8_trayed.2.1 18 = .ok (.iaload, 1) := by decide +kernel
theorem dX8_trayed_19 : decode mi_X8_trayed.2.1 19 = .ok (.ifCond .ge 7, 3) := by decide +kernel
theorem dX8_trayed_22 : decode mi_X8_trayed.2.1 22 = .ok (.iconst 3, 1) := by decide +kernel
theorem dX8_trayed_23 : decode mi_X8_trayed.2.1 23 = .ok (.goto 4, 3) := by decide +kernel
theorem dX8_trayed_26 : decode mi_X8_trayed.2.1 26 = .ok (.iconst 0, 1) := by decide +kernel
theorem dX8_trayed_27 : decode mi_X8_trayed.2.1 27 = .ok (.ireturn, 1) := by decide +kernel
theorem dX8_isIn_0 : decode mi_X8_isIn.2.1 0 = .ok (.lload_n 0, 1) := by decide +kernel
theorem dX8_isIn_1 : decode mi_X8_isIn.2.1 1 = .ok (.lload_n 2, 1) := by decide +kernel
theorem dX8_isIn_2 : decode mi_X8_isIn.2.1 2 = .ok (.lcmp, 1) := by decide +kernel
theorem dX8_isIn_3 : decode mi_X8_isIn.2.1 3 = .ok (.ifCond .lt 14, 3) := by decide +kernel
theorem dX8_isIn_6 : decode mi_X8_isIn.2.1 6 = .ok (.lload_n 0, 1) := by decide +kernel
theorem dX8_isIn_7 : decode mi_X8_isIn.2.1 7 = .ok (.lload 4, 2) := by decide +kernel
theorem dX8_isIn_9 : decode mi_X8_isIn.2.1 9 = .ok (.lcmp, 1) := by decide +kernel
theorem dX8_isIn_10 : decode mi_X8_isIn.2.1 10 = .ok (.ifCond .gt 7, 3) := by decide +kernel
theorem dX8_isIn_13 : decode mi_X8_isIn.2.1 13 = .ok (.iconst 1, 1) := by decide +kernel
theorem dX8_isIn_14 : decode mi_X8_isIn.2.1 14 = .ok (.goto 4, 3) := by decide +kernel
theorem dX8_isIn_17 : decode mi_X8_isIn.2.1 17 = .ok (.iconst 0, 1) := by decide +kernel
theorem dX8_isIn_18 : decode mi_X8_isIn.2.1 18 = .ok (.ireturn, 1) := by decide +kernel
theorem dX8_refuse_0 : decode mi_X8_refuse.2.1 0 = .ok (.aload_n 0, 1) := by decide +kernel
theorem dX8_refuse_1 : decode mi_X8_refuse.2.1 1 = .ok (.iload_n 1, 1) := by decide +kernel
theorem dX8_refuse_2 : decode mi_X8_refuse.2.1 2 = .ok (.putfield 260, 3) := by decide +kernel
theorem dX8_refuse_5 : decode mi_X8_refuse.2.1 5 = .ok (.iconst (-1), 1) := by decide +kernel
theorem dX8_refuse_6 : decode mi_X8_refuse.2.1 6 = .ok (.ireturn, 1) := by decide +kernel
theorem dX8_isFarm_0 : decode mi_X8_isFarm.2.1 0 = .ok (.iload_n 1, 1) := by decide +kernel
theorem dX8_isFarm_1 : decode mi_X8_isFarm.2.1 1 = .ok (.i2l, 1) := by decide +kernel
theorem dX8_isFarm_2 : decode mi_X8_isFarm.2.1 2 = .ok (.lconst 0, 1) := by decide +kernel
theorem dX8_isFarm_3 : decode mi_X8_isFarm.2.1 3 = .ok (.aload_n 0, 1) := by decide +kernel
theorem dX8_isFarm_4 : decode mi_X8_isFarm.2.1 4 = .ok (.getfield 291, 3) := by decide +kernel
theorem dX8_isFarm_7 : decode mi_X8_isFarm.2.1 7 = .ok (.iconst 1, 1) := by decide +kernel
theorem dX8_isFarm_8 : decode mi_X8_isFarm.2.1 8 = .ok (.isub, 1) := by decide +kernel
theorem dX8_isFarm_9 : decode mi_X8_isFarm.2.1 9 = .ok (.i2l, 1) := by decide +kernel
theorem dX8_isFarm_10 : decode mi_X8_isFarm.2.1 10 = .ok (.invokestatic 265, 3) := by decide +kernel
theorem dX8_isFarm_13 : decode mi_X8_isFarm.2.1 13 = .ok (.ireturn, 1) := by decide +kernel
theorem dX8_isElevator_0 : decode mi_X8_isElevator.2.1 0 = .ok (.iload_n 1, 1) := by decide +kernel
theorem dX8_isElevator_1 : decode mi_X8_isElevator.2.1 1 = .ok (.i2l, 1) := by decide +kernel
theorem dX8_isElevator_2 : decode mi_X8_isElevator.2.1 2 = .ok (.lconst 0, 1) := by decide +kernel
theorem dX8_isElevator_3 : decode mi_X8_isElevator.2.1 3 = .ok (.aload_n 0, 1) := by decide +kernel
theorem dX8_isElevator_4 : decode mi_X8_isElevator.2.1 4 = .ok (.getfield 294, 3) := by decide +kernel
theorem dX8_isElevator_7 : decode mi_X8_isElevator.2.1 7 = .ok (.iconst 1, 1) := by decide +kernel
theorem dX8_isElevator_8 : decode mi_X8_isElevator.2.1 8 = .ok (.isub, 1) := by decide +kernel
theorem dX8_isElevator_9 : decode mi_X8_isElevator.2.1 9 = .ok (.i2l, 1) := by decide +kernel
theorem dX8_isElevator_10 : decode mi_X8_isElevator.2.1 10 = .ok (.invokestatic 265, 3) := by decide +kernel
theorem dX8_isElevator_13 : decode mi_X8_isElevator.2.1 13 = .ok (.ireturn, 1) := by decide +kernel
theorem dX8_isDay_0 : decode mi_X8_isDay.2.1 0 = .ok (.iload_n 0, 1) := by decide +kernel
theorem dX8_isDay_1 : decode mi_X8_isDay.2.1 1 = .ok (.i2l, 1) := by decide +kernel
theorem dX8_isDay_2 : decode mi_X8_isDay.2.1 2 = .ok (.lconst 0, 1) := by decide +kernel
theorem dX8_isDay_3 : decode mi_X8_isDay.2.1 3 = .ok (.ldc2_w 263, 3) := by decide +kernel
theorem dX8_isDay_6 : decode mi_X8_isDay.2.1 6 = .ok (.invokestatic 265, 3) := by decide +kernel
theorem dX8_isDay_9 : decode mi_X8_isDay.2.1 9 = .ok (.ireturn, 1) := by decide +kernel
theorem dX8_isGrade_0 : decode mi_X8_isGrade.2.1 0 = .ok (.iload_n 0, 1) := by decide +kernel
theorem dX8_isGrade_1 : decode mi_X8_isGrade.2.1 1 = .ok (.i2l, 1) := by decide +kernel
theorem dX8_isGrade_2 : decode mi_X8_isGrade.2.1 2 = .ok (.lconst 0, 1) := by decide +kernel
theorem dX8_isGrade_3 : decode mi_X8_isGrade.2.1 3 = .ok (.ldc2_w 271, 3) := by decide +kernel
theorem dX8_isGrade_6 : decode mi_X8_isGrade.2.1 6 = .ok (.invokestatic 265, 3) := by decide +kernel
theorem dX8_isGrade_9 : decode mi_X8_isGrade.2.1 9 = .ok (.ireturn, 1) := by decide +kernel
theorem dX8_isYear_0 : decode mi_X8_isYear.2.1 0 = .ok (.iload_n 0, 1) := by decide +kernel
theorem dX8_isYear_1 : decode mi_X8_isYear.2.1 1 = .ok (.i2l, 1) := by decide +kernel
theorem dX8_isYear_2 : decode mi_X8_isYear.2.1 2 = .ok (.lconst 0, 1) := by decide +kernel
theorem dX8_isYear_3 : decode mi_X8_isYear.2.1 3 = .ok (.ldc2_w 269, 3) := by decide +kernel
theorem dX8_isYear_6 : decode mi_X8_isYear.2.1 6 = .ok (.invokestatic 265, 3) := by decide +kernel
theorem dX8_isYear_9 : decode mi_X8_isYear.2.1 9 = .ok (.ireturn, 1) := by decide +kernel
theorem dX8_isLoad_0 : decode mi_X8_isLoad.2.1 0 = .ok (.iload_n 1, 1) := by decide +kernel
theorem dX8_isLoad_1 : decode mi_X8_isLoad.2.1 1 = .ok (.i2l, 1) := by decide +kernel
theorem dX8_isLoad_2 : decode mi_X8_isLoad.2.1 2 = .ok (.lconst 0, 1) := by decide +kernel
theorem dX8_isLoad_3 : decode mi_X8_isLoad.2.1 3 = .ok (.aload_n 0, 1) := by decide +kernel
theorem dX8_isLoad_4 : decode mi_X8_isLoad.2.1 4 = .ok (.getfield 309, 3) := by decide +kernel
theorem dX8_isLoad_7 : decode mi_X8_isLoad.2.1 7 = .ok (.iconst 1, 1) := by decide +kernel
theorem dX8_isLoad_8 : decode mi_X8_isLoad.2.1 8 = .ok (.isub, 1) := by decide +kernel
theorem dX8_isLoad_9 : decode mi_X8_isLoad.2.1 9 = .ok (.i2l, 1) := by decide +kernel
theorem dX8_isLoad_10 : decode mi_X8_isLoad.2.1 10 = .ok (.invokestatic 265, 3) := by decide +kernel
theorem dX8_isLoad_13 : decode mi_X8_isLoad.2.1 13 = .ok (.ifCond .eq 16, 3) := by decide +kernel
theorem dX8_isLoad_16 : decode mi_X8_isLoad.2.1 16 = .ok (.aload_n 0, 1) := by decide +kernel
theorem dX8_isLoad_17 : decode mi_X8_isLoad.2.1 17 = .ok (.getfield 35, 3) := by decide +kernel
theorem dX8_isLoad_20 : decode mi_X8_isLoad.2.1 20 = .ok (.iload_n 1, 1) := by decide +kernel
theorem dX8_isLoad_21 : decode mi_X8_isLoad.2.1 21 = .ok (.iaload, 1) := by decide +kernel
theorem dX8_isLoad_22 : decode mi_X8_isLoad.2.1 22 = .ok (.ifCond .ne 7, 3) := by decide +kernel
theorem dX8_isLoad_25 : decode mi_X8_isLoad.2.1 25 = .ok (.iconst 1, 1) := by decide +kernel
theorem dX8_isLoad_26 : decode mi_X8_isLoad.2.1 26 = .ok (.goto 4, 3) := by decide +kernel
theorem dX8_isLoad_29 : decode mi_X8_isLoad.2.1 29 = .ok (.iconst 0, 1) := by decide +kernel
theorem dX8_isLoad_30 : decode mi_X8_isLoad.2.1 30 = .ok (.ireturn, 1) := by decide +kernel
theorem dX8_net_0 : decode mi_X8_net.2.1 0 = .ok (.aload_n 0, 1) := by decide +kernel
theorem dX8_net_1 : decode mi_X8_net.2.1 1 = .ok (.getfield 53, 3) := by decide +kernel
theorem dX8_net_4 : decode mi_X8_net.2.1 4 = .ok (.iload_n 1, 1) := by decide +kernel
theorem dX8_net_5 : decode mi_X8_net.2.1 5 = .ok (.iaload, 1) := by decide +kernel
theorem dX8_net_6 : decode mi_X8_net.2.1 6 = .ok (.aload_n 0, 1) := by decide +kernel
theorem dX8_net_7 : decode mi_X8_net.2.1 7 = .ok (.getfield 53, 3) := by decide +kernel
theorem dX8_net_10 : decode mi_X8_net.2.1 10 = .ok (.iload_n 1, 1) := by decide +kernel
theorem dX8_net_11 : decode mi_X8_net.2.1 11 = .ok (.iaload, 1) := by decide +kernel
theorem dX8_net_12 : decode mi_X8_net.2.1 12 = .ok (.aload_n 0, 1) := by decide +kernel
theorem dX8_net_13 : decode mi_X8_net.2.1 13 = .ok (.getfield 56, 3) := by decide +kernel
theorem dX8_net_16 : decode mi_X8_net.2.1 16 = .ok (.iload_n 1, 1) := by decide +kernel
theorem dX8_net_17 : decode mi_X8_net.2.1 17 = .ok (.iaload, 1) := by decide +kernel
theorem dX8_net_18 : decode mi_X8_net.2.1 18 = .ok (.imul, 1) := by decide +kernel
theorem dX8_net_19 : decode mi_X8_net.2.1 19 = .ok (.sipush 1000, 3) := by decide +kernel
theorem dX8_net_22 : decode mi_X8_net.2.1 22 = .ok (.idiv, 1) := by decide +kernel
theorem dX8_net_23 : decode mi_X8_net.2.1 23 = .ok (.isub, 1) := by decide +kernel
theorem dX8_net_24 : decode mi_X8_net.2.1 24 = .ok (.ireturn, 1) := by decide +kernel
theorem dX8_spelled_0 : decode mi_X8_spelled.2.1 0 = .ok (.iload_n 0, 1) := by decide +kernel
theorem dX8_spelled_1 : decode mi_X8_spelled.2.1 1 = .ok (.i2l, 1) := by decide +kernel
theorem dX8_spelled_2 : decode mi_X8_spelled.2.1 2 = .ok (.ldc2_w 434, 3) := by decide +kernel
theorem dX8_spelled_5 : decode mi_X8_spelled.2.1 5 = .ok (.lsub, 1) := by decide +kernel
theorem dX8_spelled_6 : decode mi_X8_spelled.2.1 6 = .ok (.lstore 6, 2) := by decide +kernel
theorem dX8_spelled_8 : decode mi_X8_spelled.2.1 8 = .ok (.lload 6, 2) := by decide +kernel
theorem dX8_spelled_10 : decode mi_X8_spelled.2.1 10 = .ok (.ldc2_w 432, 3) := by decide +kernel
theorem dX8_spelled_13 : decode mi_X8_spelled.2.1 13 = .ok (.lmul, 1) := by decide +kernel
theorem dX8_spelled_14 : decode mi_X8_spelled.2.1 14 = .ok (.iload_n 1, 1) := by decide +kernel
theorem dX8_spelled_15 : decode mi_X8_spelled.2.1 15 = .ok (.i2l, 1) := by decide +kernel
theorem dX8_spelled_16 : decode mi_X8_spelled.2.1 16 = .ok (.ladd, 1) := by decide +kernel
theorem dX8_spelled_17 : decode mi_X8_spelled.2.1 17 = .ok (.ldc2_w 434, 3) := by decide +kernel
theorem dX8_spelled_20 : decode mi_X8_spelled.2.1 20 = .ok (.lsub, 1) := by decide +kernel
theorem dX8_spelled_21 : decode mi_X8_spelled.2.1 21 = .ok (.lstore 6, 2) := by decide +kernel
theorem dX8_spelled_23 : decode mi_X8_spelled.2.1 23 = .ok (.iload_n 2, 1) := by decide +kernel
theorem dX8_spelled_24 : decode mi_X8_spelled.2.1 24 = .ok (.ifCond .le 19, 3) := by decide +kernel
theorem dX8_spelled_27 : decode mi_X8_spelled.2.1 27 = .ok (.lload 6, 2) := by decide +kernel
theorem dX8_spelled_29 : decode mi_X8_spelled.2.1 29 = .ok (.ldc2_w 432, 3) := by decide +kernel
theorem dX8_spelled_32 : decode mi_X8_spelled.2.1 32 = .ok (.lmul, 1) := by decide +kernel
theorem dX8_spelled_33 : decode mi_X8_spelled.2.1 33 = .ok (.iload_n 2, 1) := by decide +kernel
theorem dX8_spelled_34 : decode mi_X8_spelled.2.1 34 = .ok (.i2l, 1) := by decide +kernel
theorem dX8_spelled_35 : decode mi_X8_spelled.2.1 35 = .ok (.ladd, 1) := by decide +kernel
theorem dX8_spelled_36 : decode mi_X8_spelled.2.1 36 = .ok (.ldc2_w 434, 3) := by decide +kernel
theorem dX8_spelled_39 : decode mi_X8_spelled.2.1 39 = .ok (.lsub, 1) := by decide +kernel
theorem dX8_spelled_40 : decode mi_X8_spelled.2.1 40 = .ok (.goto 5, 3) := by decide +kernel
theorem dX8_spelled_43 : decode mi_X8_spelled.2.1 43 = .ok (.lload 6, 2) := by decide +kernel
theorem dX8_spelled_45 : decode mi_X8_spelled.2.1 45 = .ok (.lstore 6, 2) := by decide +kernel
theorem dX8_spelled_47 : decode mi_X8_spelled.2.1 47 = .ok (.iload_n 3, 1) := by decide +kernel
theorem dX8_spelled_48 : decode mi_X8_spelled.2.1 48 = .ok (.ifCond .le 19, 3) := by decide +kernel
theorem dX8_spelled_51 : decode mi_X8_spelled.2.1 51 = .ok (.lload 6, 2) := by decide +kernel
theorem dX8_spelled_53 : decode mi_X8_spelled.2.1 53 = .ok (.ldc2_w 432, 3) := by decide +kernel
theorem dX8_spelled_56 : decode mi_X8_spelled.2.1 56 = .ok (.lmul, 1) := by decide +kernel
theorem dX8_spelled_57 : decode mi_X8_spelled.2.1 57 = .ok (.iload_n 3, 1) := by decide +kernel
theorem dX8_spelled_58 : decode mi_X8_spelled.2.1 58 = .ok (.i2l, 1) := by decide +kernel
theorem dX8_spelled_59 : decode mi_X8_spelled.2.1 59 = .ok (.ladd, 1) := by decide +kernel
theorem dX8_spelled_60 : decode mi_X8_spelled.2.1 60 = .ok (.ldc2_w 434, 3) := by decide +kernel
theorem dX8_spelled_63 : decode mi_X8_spelled.2.1 63 = .ok (.lsub, 1) := by decide +kernel
theorem dX8_spelled_64 : decode mi_X8_spelled.2.1 64 = .ok (.goto 5, 3) := by decide +kernel
theorem dX8_spelled_67 : decode mi_X8_spelled.2.1 67 = .ok (.lload 6, 2) := by decide +kernel
theorem dX8_spelled_69 : decode mi_X8_spelled.2.1 69 = .ok (.lstore 6, 2) := by decide +kernel
theorem dX8_spelled_71 : decode mi_X8_spelled.2.1 71 = .ok (.iload 4, 2) := by decide +kernel
theorem dX8_spelled_73 : decode mi_X8_spelled.2.1 73 = .ok (.ifCond .le 20, 3) := by decide +kernel
theorem dX8_spelled_76 : decode mi_X8_spelled.2.1 76 = .ok (.lload 6, 2) := by decide +kernel
theorem dX8_spelled_78 : decode mi_X8_spelled.2.1 78 = .ok (.ldc2_w 432, 3) := by decide +kernel
theorem dX8_spelled_81 : decode mi_X8_spelled.2.1 81 = .ok (.lmul, 1) := by decide +kernel
theorem dX8_spelled_82 : decode mi_X8_spelled.2.1 82 = .ok (.iload 4, 2) := by decide +kernel
theorem dX8_spelled_84 : decode mi_X8_spelled.2.1 84 = .ok (.i2l, 1) := by decide +kernel
theorem dX8_spelled_85 : decode mi_X8_spelled.2.1 85 = .ok (.ladd, 1) := by decide +kernel
theorem dX8_spelled_86 : decode mi_X8_spelled.2.1 86 = .ok (.ldc2_w 434, 3) := by decide +kernel
theorem dX8_spelled_89 : decode mi_X8_spelled.2.1 89 = .ok (.lsub, 1) := by decide +kernel
theorem dX8_spelled_90 : decode mi_X8_spelled.2.1 90 = .ok (.goto 5, 3) := by decide +kernel
theorem dX8_spelled_93 : decode mi_X8_spelled.2.1 93 = .ok (.lload 6, 2) := by decide +kernel
theorem dX8_spelled_95 : decode mi_X8_spelled.2.1 95 = .ok (.lstore 6, 2) := by decide +kernel
theorem dX8_spelled_97 : decode mi_X8_spelled.2.1 97 = .ok (.iload 5, 2) := by decide +kernel
theorem dX8_spelled_99 : decode mi_X8_spelled.2.1 99 = .ok (.ifCond .le 20, 3) := by decide +kernel
theorem dX8_spelled_102 : decode mi_X8_spelled.2.1 102 = .ok (.lload 6, 2) := by decide +kernel
theorem dX8_spelled_104 : decode mi_X8_spelled.2.1 104 = .ok (.ldc2_w 432, 3) := by decide +kernel
theorem dX8_spelled_107 : decode mi_X8_spelled.2.1 107 = .ok (.lmul, 1) := by decide +kernel
theorem dX8_spelled_108 : decode mi_X8_spelled.2.1 108 = .ok (.iload 5, 2) := by decide +kernel
theorem dX8_spelled_110 : decode mi_X8_spelled.2.1 110 = .ok (.i2l, 1) := by decide +kernel
theorem dX8_spelled_111 : decode mi_X8_spelled.2.1 111 = .ok (.ladd, 1) := by decide +kernel
theorem dX8_spelled_112 : decode mi_X8_spelled.2.1 112 = .ok (.ldc2_w 434, 3) := by decide +kernel
theorem dX8_spelled_115 : decode mi_X8_spelled.2.1 115 = .ok (.lsub, 1) := by decide +kernel
theorem dX8_spelled_116 : decode mi_X8_spelled.2.1 116 = .ok (.goto 5, 3) := by decide +kernel
theorem dX8_spelled_119 : decode mi_X8_spelled.2.1 119 = .ok (.lload 6, 2) := by decide +kernel
theorem dX8_spelled_121 : decode mi_X8_spelled.2.1 121 = .ok (.lreturn, 1) := by decide +kernel
theorem dX8_push_0 : decode mi_X8_push.2.1 0 = .ok (.aload_n 0, 1) := by decide +kernel
theorem dX8_push_1 : decode mi_X8_push.2.1 1 = .ok (.getfield 148, 3) := by decide +kernel
theorem dX8_push_4 : decode mi_X8_push.2.1 4 = .ok (.aload_n 0, 1) := by decide +kernel
theorem dX8_push_5 : decode mi_X8_push.2.1 5 = .ok (.getfield 578, 3) := by decide +kernel
theorem dX8_push_8 : decode mi_X8_push.2.1 8 = .ok (.lload_n 1, 1) := by decide +kernel
theorem dX8_push_9 : decode mi_X8_push.2.1 9 = .ok (.lastore, 1) := by decide +kernel
theorem dX8_push_10 : decode mi_X8_push.2.1 10 = .ok (.aload_n 0, 1) := by decide +kernel
theorem dX8_push_11 : decode mi_X8_push.2.1 11 = .ok (.getfield 157, 3) := by decide +kernel
theorem dX8_push_14 : decode mi_X8_push.2.1 14 = .ok (.aload_n 0, 1) := by decide +kernel
theorem dX8_push_15 : decode mi_X8_push.2.1 15 = .ok (.getfield 578, 3) := by decide +kernel
theorem dX8_push_18 : decode mi_X8_push.2.1 18 = .ok (.iload_n 3, 1) := by decide +kernel
theorem dX8_push_19 : decode mi_X8_push.2.1 19 = .ok (.bastore, 1) := by decide +kernel
theorem dX8_push_20 : decode mi_X8_push.2.1 20 = .ok (.aload_n 0, 1) := by decide +kernel
theorem dX8_push_21 : decode mi_X8_push.2.1 21 = .ok (.dup, 1) := by decide +kernel
theorem dX8_push_22 : decode mi_X8_push.2.1 22 = .ok (.getfield 578, 3) := by decide +kernel
theorem dX8_push_25 : decode mi_X8_push.2.1 25 = .ok (.iconst 1, 1) := by decide +kernel
theorem dX8_push_26 : decode mi_X8_push.2.1 26 = .ok (.iadd, 1) := by decide +kernel
theorem dX8_push_27 : decode mi_X8_push.2.1 27 = .ok (.putfield 578, 3) := by decide +kernel
theorem dX8_push_30 : decode mi_X8_push.2.1 30 = .ok (.return_, 1) := by decide +kernel
theorem dX8_isWho_0 : decode mi_X8_isWho.2.1 0 = .ok (.iload_n 1, 1) := by decide +kernel
theorem dX8_isWho_1 : decode mi_X8_isWho.2.1 1 = .ok (.iconst (-1), 1) := by decide +kernel
theorem dX8_isWho_2 : decode mi_X8_isWho.2.1 2 = .ok (.if_icmp .eq 11, 3) := by decide +kernel
theorem dX8_isWho_5 : decode mi_X8_isWho.2.1 5 = .ok (.aload_n 0, 1) := by decide +kernel
theorem dX8_isWho_6 : decode mi_X8_isWho.2.1 6 = .ok (.iload_n 1, 1) := by decide +kernel
theorem dX8_isWho_7 : decode mi_X8_isWho.2.1 7 = .ok (.invokevirtual 318, 3) := by decide +kernel
theorem dX8_isWho_10 : decode mi_X8_isWho.2.1 10 = .ok (.ifCond .eq 7, 3) := by decide +kernel
theorem dX8_isWho_13 : decode mi_X8_isWho.2.1 13 = .ok (.iconst 1, 1) := by decide +kernel
theorem dX8_isWho_14 : decode mi_X8_isWho.2.1 14 = .ok (.goto 4, 3) := by decide +kernel
theorem dX8_isWho_17 : decode mi_X8_isWho.2.1 17 = .ok (.iconst 0, 1) := by decide +kernel
theorem dX8_isWho_18 : decode mi_X8_isWho.2.1 18 = .ok (.ireturn, 1) := by decide +kernel
theorem dX8_binAt_0 : decode mi_X8_binAt.2.1 0 = .ok (.bipush 20, 2) := by decide +kernel
theorem dX8_binAt_2 : decode mi_X8_binAt.2.1 2 = .ok (.bipush 6, 2) := by decide +kernel
theorem dX8_binAt_4 : decode mi_X8_binAt.2.1 4 = .ok (.iload_n 0, 1) := by decide +kernel
theorem dX8_binAt_5 : decode mi_X8_binAt.2.1 5 = .ok (.imul, 1) := by decide +kernel
theorem dX8_binAt_6 : decode mi_X8_binAt.2.1 6 = .ok (.iload_n 1, 1) := by decide +kernel
theorem dX8_binAt_7 : decode mi_X8_binAt.2.1 7 = .ok (.iadd, 1) := by decide +kernel
theorem dX8_binAt_8 : decode mi_X8_binAt.2.1 8 = .ok (.bipush 10, 2) := by decide +kernel
theorem dX8_binAt_10 : decode mi_X8_binAt.2.1 10 = .ok (.imul, 1) := by decide +kernel
theorem dX8_binAt_11 : decode mi_X8_binAt.2.1 11 = .ok (.iload_n 2, 1) := by decide +kernel
theorem dX8_binAt_12 : decode mi_X8_binAt.2.1 12 = .ok (.iadd, 1) := by decide +kernel
theorem dX8_binAt_13 : decode mi_X8_binAt.2.1 13 = .ok (.imul, 1) := by decide +kernel
theorem dX8_binAt_14 : decode mi_X8_binAt.2.1 14 = .ok (.ireturn, 1) := by decide +kernel
theorem dX8_look_0 : decode mi_X8_look.2.1 0 = .ok (.iload_n 1, 1) := by decide +kernel
theorem dX8_look_1 : decode mi_X8_look.2.1 1 = .ok (.aload_n 0, 1) := by decide +kernel
theorem dX8_look_2 : decode mi_X8_look.2.1 2 = .ok (.getfield 410, 3) := by decide +kernel
theorem dX8_look_5 : decode mi_X8_look.2.1 5 = .ok (.if_icmp .ge 16, 3) := by decide +kernel
theorem dX8_look_8 : decode mi_X8_look.2.1 8 = .ok (.aload_n 0, 1) := by decide +kernel
theorem dX8_look_9 : decode mi_X8_look.2.1 9 = .ok (.getfield 113, 3) := by decide +kernel
theorem dX8_look_12 : decode mi_X8_look.2.1 12 = .ok (.iload_n 1, 1) := by decide +kernel
theorem dX8_look_13 : decode mi_X8_look.2.1 13 = .ok (.baload, 1) := by decide +kernel
theorem dX8_look_14 : decode mi_X8_look.2.1 14 = .ok (.sipush 255, 3) := by decide +kernel
theorem dX8_look_17 : decode mi_X8_look.2.1 17 = .ok (.iand, 1) := by decide +kernel
theorem dX8_look_18 : decode mi_X8_look.2.1 18 = .ok (.goto 4, 3) := by decide +kernel
theorem dX8_look_21 : decode mi_X8_look.2.1 21 = .ok (.iconst 0, 1) := by decide +kernel
theorem dX8_look_22 : decode mi_X8_look.2.1 22 = .ok (.ireturn, 1) := by decide +kernel
theorem dX8_isLetter_0 : decode mi_X8_isLetter.2.1 0 = .ok (.iload_n 0, 1) := by decide +kernel
theorem dX8_isLetter_1 : decode mi_X8_isLetter.2.1 1 = .ok (.bipush 97, 2) := by decide +kernel
theorem dX8_isLetter_3 : decode mi_X8_isLetter.2.1 3 = .ok (.if_icmp .lt 13, 3) := by decide +kernel
theorem dX8_isLetter_6 : decode mi_X8_isLetter.2.1 6 = .ok (.iload_n 0, 1) := by decide +kernel
theorem dX8_isLetter_7 : decode mi_X8_isLetter.2.1 7 = .ok (.bipush 122, 2) := by decide +kernel
theorem dX8_isLetter_9 : decode mi_X8_isLetter.2.1 9 = .ok (.if_icmp .gt 7, 3) := by decide +kernel
theorem dX8_isLetter_12 : decode mi_X8_isLetter.2.1 12 = .ok (.iconst 1, 1) := by decide +kernel
theorem dX8_isLetter_13 : decode mi_X8_isLetter.2.1 13 = .ok (.goto 4, 3) := by decide +kernel
theorem dX8_isLetter_16 : decode mi_X8_isLetter.2.1 16 = .ok (.iconst 0, 1) := by decide +kernel
theorem dX8_isLetter_17 : decode mi_X8_isLetter.2.1 17 = .ok (.ireturn, 1) := by decide +kernel
theorem dX8_isDigit_0 : decode mi_X8_isDigit.2.1 0 = .ok (.iload_n 0, 1) := by decide +kernel
theorem dX8_isDigit_1 : decode mi_X8_isDigit.2.1 1 = .ok (.bipush 48, 2) := by decide +kernel
theorem dX8_isDigit_3 : decode mi_X8_isDigit.2.1 3 = .ok (.if_icmp .lt 13, 3) := by decide +kernel
theorem dX8_isDigit_6 : decode mi_X8_isDigit.2.1 6 = .ok (.iload_n 0, 1) := by decide +kernel
theorem dX8_isDigit_7 : decode mi_X8_isDigit.2.1 7 = .ok (.bipush 57, 2) := by decide +kernel
theorem dX8_isDigit_9 : decode mi_X8_isDigit.2.1 9 = .ok (.if_icmp .gt 7, 3) := by decide +kernel
theorem dX8_isDigit_12 : decode mi_X8_isDigit.2.1 12 = .ok (.iconst 1, 1) := by decide +kernel
theorem dX8_isDigit_13 : decode mi_X8_isDigit.2.1 13 = .ok (.goto 4, 3) := by decide +kernel
theorem dX8_isDigit_16 : decode mi_X8_isDigit.2.1 16 = .ok (.iconst 0, 1) := by decide +kernel
theorem dX8_isDigit_17 : decode mi_X8_isDigit.2.1 17 = .ok (.ireturn, 1) := by decide +kernel
theorem dX8_isWord_0 : decode mi_X8_isWord.2.1 0 = .ok (.aload_n 0, 1) := by decide +kernel
theorem dX8_isWord_1 : decode mi_X8_isWord.2.1 1 = .ok (.getfield 422, 3) := by decide +kernel
theorem dX8_isWord_4 : decode mi_X8_isWord.2.1 4 = .ok (.iconst 1, 1) := by decide +kernel
theorem dX8_isWord_5 : decode mi_X8_isWord.2.1 5 = .ok (.if_icmp .ne 16, 3) := by decide +kernel
theorem dX8_isWord_8 : decode mi_X8_isWord.2.1 8 = .ok (.aload_n 0, 1) := by decide +kernel
theorem dX8_isWord_9 : decode mi_X8_isWord.2.1 9 = .ok (.getfield 428, 3) := by decide +kernel
theorem dX8_isWord_12 : decode mi_X8_isWord.2.1 12 = .ok (.lload_n 1, 1) := by decide +kernel
theorem dX8_isWord_13 : decode mi_X8_isWord.2.1 13 = .ok (.lcmp, 1) := by decide +kernel
theorem dX8_isWord_14 : decode mi_X8_isWord.2.1 14 = .ok (.ifCond .ne 7, 3) := by decide +kernel
theorem dX8_isWord_17 : decode mi_X8_isWord.2.1 17 = .ok (.iconst 1, 1) := by decide +kernel
theorem dX8_isWord_18 : decode mi_X8_isWord.2.1 18 = .ok (.goto 4, 3) := by decide +kernel
theorem dX8_isWord_21 : decode mi_X8_isWord.2.1 21 = .ok (.iconst 0, 1) := by decide +kernel
theorem dX8_isWord_22 : decode mi_X8_isWord.2.1 22 = .ok (.ireturn, 1) := by decide +kernel
theorem dX8_isIf_0 : decode mi_X8_isIf.2.1 0 = .ok (.aload_n 0, 1) := by decide +kernel
theorem dX8_isIf_1 : decode mi_X8_isIf.2.1 1 = .ok (.bipush 105, 2) := by decide +kernel
theorem dX8_isIf_3 : decode mi_X8_isIf.2.1 3 = .ok (.bipush 102, 2) := by decide +kernel
theorem dX8_isIf_5 : decode mi_X8_isIf.2.1 5 = .ok (.iconst 0, 1) := by decide +kernel
theorem dX8_isIf_6 : decode mi_X8_isIf.2.1 6 = .ok (.iconst 0, 1) := by decide +kernel
theorem dX8_isIf_7 : decode mi_X8_isIf.2.1 7 = .ok (.iconst 0, 1) := by decide +kernel
theorem dX8_isIf_8 : decode mi_X8_isIf.2.1 8 = .ok (.iconst 0, 1) := by decide +kernel
theorem dX8_isIf_9 : decode mi_X8_isIf.2.1 9 = .ok (.invokestatic 350, 3) := by decide +kernel
theorem dX8_isIf_12 : decode mi_X8_isIf.2.1 12 = .ok (.invokevirtual 462, 3) := by decide +kernel
theorem dX8_isIf_15 : decode mi_X8_isIf.2.1 15 = .ok (.ireturn, 1) := by decide +kernel
theorem dX8_isThen_0 : decode mi_X8_isThen.2.1 0 = .ok (.aload_n 0, 1) := by decide +kernel
theorem dX8_isThen_1 : decode mi_X8_isThen.2.1 1 = .ok (.bipush 116, 2) := by decide +kernel
theorem dX8_isThen_3 : decode mi_X8_isThen.2.1 3 = .ok (.bipush 104, 2) := by decide +kernel
theorem dX8_isThen_5 : decode mi_X8_isThen.2.1 5 = .ok (.bipush 101, 2) := by decide +kernel
theorem dX8_isThen_7 : decode mi_X8_isThen.2.1 7 = .ok (.bipush 110, 2) := by decide +kernel
theorem dX8_isThen_9 : decode mi_X8_isThen.2.1 9 = .ok (.iconst 0, 1) := by decide +kernel
theorem dX8_isThen_10 : decode mi_X8_isThen.2.1 10 = .ok (.iconst 0, 1) := by decide +kernel
theorem dX8_isThen_11 : decode mi_X8_isThen.2.1 11 = .ok (.invokestatic 350, 3) := by decide +kernel
theorem dX8_isThen_14 : decode mi_X8_isThen.2.1 14 = .ok (.invokevirtual 462, 3) := by decide +kernel
theorem dX8_isThen_17 : decode mi_X8_isThen.2.1 17 = .ok (.ireturn, 1) := by decide +kernel
theorem dX8_isElse_0 : decode mi_X8_isElse.2.1 0 = .ok (.aload_n 0, 1) := by decide +kernel
theorem dX8_isElse_1 : decode mi_X8_isElse.2.1 1 = .ok (.bipush 101, 2) := by decide +kernel
theorem dX8_isElse_3 : decode mi_X8_isElse.2.1 3 = .ok (.bipush 108, 2) := by decide +kernel
theorem dX8_isElse_5 : decode mi_X8_isElse.2.1 5 = .ok (.bipush 115, 2) := by decide +kernel
theorem dX8_isElse_7 : decode mi_X8_isElse.2.1 7 = .ok (.bipush 101, 2) := by decide +kernel
theorem dX8_isElse_9 : decode mi_X8_isElse.2.1 9 = .ok (.iconst 0, 1) := by decide +kernel
theorem dX8_isElse_10 : decode mi_X8_isElse.2.1 10 = .ok (.iconst 0, 1) := by decide +kernel
theorem dX8_isElse_11 : decode mi_X8_isElse.2.1 11 = .ok (.invokestatic 350, 3) := by decide +kernel
theorem dX8_isElse_14 : decode mi_X8_isElse.2.1 14 = .ok (.invokevirtual 462, 3) := by decide +kernel
theorem dX8_isElse_17 : decode mi_X8_isElse.2.1 17 = .ok (.ireturn, 1) := by decide +kernel
theorem dX8_isAnd_0 : decode mi_X8_isAnd.2.1 0 = .ok (.aload_n 0, 1) := by decide +kernel
theorem dX8_isAnd_1 : decode mi_X8_isAnd.2.1 1 = .ok (.bipush 97, 2) := by decide +kernel
theorem dX8_isAnd_3 : decode mi_X8_isAnd.2.1 3 = .ok (.bipush 110, 2) := by decide +kernel
theorem dX8_isAnd_5 : decode mi_X8_isAnd.2.1 5 = .ok (.bipush 100, 2) := by decide +kernel
theorem dX8_isAnd_7 : decode mi_X8_isAnd.2.1 7 = .ok (.iconst 0, 1) := by decide +kernel
theorem dX8_isAnd_8 : decode mi_X8_isAnd.2.1 8 = .ok (.iconst 0, 1) := by decide +kernel
theorem dX8_isAnd_9 : decode mi_X8_isAnd.2.1 9 = .ok (.iconst 0, 1) := by decide +kernel
theorem dX8_isAnd_10 : decode mi_X8_isAnd.2.1 10 = .ok (.invokestatic 350, 3) := by decide +kernel
theorem dX8_isAnd_13 : decode mi_X8_isAnd.2.1 13 = .ok (.invokevirtual 462, 3) := by decide +kernel
theorem dX8_isAnd_16 : decode mi_X8_isAnd.2.1 16 = .ok (.ireturn, 1) := by decide +kernel
theorem dX8_isOr_0 : decode mi_X8_isOr.2.1 0 = .ok (.aload_n 0, 1) := by decide +kernel
theorem dX8_isOr_1 : decode mi_X8_isOr.2.1 1 = .ok (.bipush 111, 2) := by decide +kernel
theorem dX8_isOr_3 : decode mi_X8_isOr.2.1 3 = .ok (.bipush 114, 2) := by decide +kernel
theorem dX8_isOr_5 : decode mi_X8_isOr.2.1 5 = .ok (.iconst 0, 1) := by decide +kernel
theorem dX8_isOr_6 : decode mi_X8_isOr.2.1 6 = .ok (.iconst 0, 1) := by decide +kernel
theorem dX8_isOr_7 : decode mi_X8_isOr.2.1 7 = .ok (.iconst 0, 1) := by decide +kernel
theorem dX8_isOr_8 : decode mi_X8_isOr.2.1 8 = .ok (.iconst 0, 1) := by decide +kernel
theorem dX8_isOr_9 : decode mi_X8_isOr.2.1 9 = .ok (.invokestatic 350, 3) := by decide +kernel
theorem dX8_isOr_12 : decode mi_X8_isOr.2.1 12 = .ok (.invokevirtual 462, 3) := by decide +kernel
theorem dX8_isOr_15 : decode mi_X8_isOr.2.1 15 = .ok (.ireturn, 1) := by decide +kernel
theorem dX8_isNot_0 : decode mi_X8_isNot.2.1 0 = .ok (.aload_n 0, 1) := by decide +kernel
theorem dX8_isNot_1 : decode mi_X8_isNot.2.1 1 = .ok (.bipush 110, 2) := by decide +kernel
theorem dX8_isNot_3 : decode mi_X8_isNot.2.1 3 = .ok (.bipush 111, 2) := by decide +kernel
theorem dX8_isNot_5 : decode mi_X8_isNot.2.1 5 = .ok (.bipush 116, 2) := by decide +kernel
theorem dX8_isNot_7 : decode mi_X8_isNot.2.1 7 = .ok (.iconst 0, 1) := by decide +kernel
theorem dX8_isNot_8 : decode mi_X8_isNot.2.1 8 = .ok (.iconst 0, 1) := by decide +kernel
theorem dX8_isNot_9 : decode mi_X8_isNot.2.1 9 = .ok (.iconst 0, 1) := by decide +kernel
theorem dX8_isNot_10 : decode mi_X8_isNot.2.1 10 = .ok (.invokestatic 350, 3) := by decide +kernel
theorem dX8_isNot_13 : decode mi_X8_isNot.2.1 13 = .ok (.invokevirtual 462, 3) := by decide +kernel
theorem dX8_isNot_16 : decode mi_X8_isNot.2.1 16 = .ok (.ireturn, 1) := by decide +kernel
theorem dX8_isLeast_0 : decode mi_X8_isLeast.2.1 0 = .ok (.aload_n 0, 1) := by decide +kernel
theorem dX8_isLeast_1 : decode mi_X8_isLeast.2.1 1 = .ok (.bipush 108, 2) := by decide +kernel
theorem dX8_isLeast_3 : decode mi_X8_isLeast.2.1 3 = .ok (.bipush 101, 2) := by decide +kernel
theorem dX8_isLeast_5 : decode mi_X8_isLeast.2.1 5 = .ok (.bipush 97, 2) := by decide +kernel
theorem dX8_isLeast_7 : decode mi_X8_isLeast.2.1 7 = .ok (.bipush 115, 2) := by decide +kernel
theorem dX8_isLeast_9 : decode mi_X8_isLeast.2.1 9 = .ok (.bipush 116, 2) := by decide +kernel
theorem dX8_isLeast_11 : decode mi_X8_isLeast.2.1 11 = .ok (.iconst 0, 1) := by decide +kernel
theorem dX8_isLeast_12 : decode mi_X8_isLeast.2.1 12 = .ok (.invokestatic 350, 3) := by decide +kernel
theorem dX8_isLeast_15 : decode mi_X8_isLeast.2.1 15 = .ok (.invokevirtual 462, 3) := by decide +kernel
theorem dX8_isLeast_18 : decode mi_X8_isLeast.2.1 18 = .ok (.ireturn, 1) := by decide +kernel
theorem dX8_isMost_0 : decode mi_X8_isMost.2.1 0 = .ok (.aload_n 0, 1) := by decide +kernel
theorem dX8_isMost_1 : decode mi_X8_isMost.2.1 1 = .ok (.bipush 109, 2) := by decide +kernel
theorem dX8_isMost_3 : decode mi_X8_isMost.2.1 3 = .ok (.bipush 111, 2) := by decide +kernel
theorem dX8_isMost_5 : decode mi_X8_isMost.2.1 5 = .ok (.bipush 115, 2) := by decide +kernel
theorem dX8_isMost_7 : decode mi_X8_isMost.2.1 7 = .ok (.bipush 116, 2) := by decide +kernel
theorem dX8_isMost_9 : decode mi_X8_isMost.2.1 9 = .ok (.iconst 0, 1) := by decide +kernel
theorem dX8_isMost_10 : decode mi_X8_isMost.2.1 10 = .ok (.iconst 0, 1) := by decide +kernel
theorem dX8_isMost_11 : decode mi_X8_isMost.2.1 11 = .ok (.invokestatic 350, 3) := by decide +kernel
theorem dX8_isMost_14 : decode mi_X8_isMost.2.1 14 = .ok (.invokevirtual 462, 3) := by decide +kernel
theorem dX8_isMost_17 : decode mi_X8_isMost.2.1 17 = .ok (.ireturn, 1) := by decide +kernel
theorem dX8_wrong_0 : decode mi_X8_wrong.2.1 0 = .ok (.aload_n 0, 1) := by decide +kernel
theorem dX8_wrong_1 : decode mi_X8_wrong.2.1 1 = .ok (.aload_n 0, 1) := by decide +kernel
theorem dX8_wrong_2 : decode mi_X8_wrong.2.1 2 = .ok (.getfield 422, 3) := by decide +kernel
theorem dX8_wrong_5 : decode mi_X8_wrong.2.1 5 = .ok (.iconst 4, 1) := by decide +kernel
theorem dX8_wrong_6 : decode mi_X8_wrong.2.1 6 = .ok (.if_icmp .ne 7, 3) := by decide +kernel
theorem dX8_wrong_9 : decode mi_X8_wrong.2.1 9 = .ok (.iconst 1, 1) := by decide +kernel
theorem dX8_wrong_10 : decode mi_X8_wrong.2.1 10 = .ok (.goto 4, 3) := by decide +kernel
theorem dX8_wrong_13 : decode mi_X8_wrong.2.1 13 = .ok (.iconst 2, 1) := by decide +kernel
theorem dX8_wrong_14 : decode mi_X8_wrong.2.1 14 = .ok (.aload_n 0, 1) := by decide +kernel
theorem dX8_wrong_15 : decode mi_X8_wrong.2.1 15 = .ok (.getfield 416, 3) := by decide +kernel
theorem dX8_wrong_18 : decode mi_X8_wrong.2.1 18 = .ok (.invokevirtual 459, 3) := by decide +kernel
theorem dX8_wrong_21 : decode mi_X8_wrong.2.1 21 = .ok (.return_, 1) := by decide +kernel
theorem dX8_fail_0 : decode mi_X8_fail.2.1 0 = .ok (.aload_n 0, 1) := by decide +kernel
theorem dX8_fail_1 : decode mi_X8_fail.2.1 1 = .ok (.getfield 453, 3) := by decide +kernel
theorem dX8_fail_4 : decode mi_X8_fail.2.1 4 = .ok (.ifCond .le 4, 3) := by decide +kernel
theorem dX8_fail_7 : decode mi_X8_fail.2.1 7 = .ok (.return_, 1) := by decide +kernel
theorem dX8_fail_8 : decode mi_X8_fail.2.1 8 = .ok (.aload_n 0, 1) := by decide +kernel
theorem dX8_fail_9 : decode mi_X8_fail.2.1 9 = .ok (.iload_n 1, 1) := by decide +kernel
theorem dX8_fail_10 : decode mi_X8_fail.2.1 10 = .ok (.putfield 453, 3) := by decide +kernel
theorem dX8_fail_13 : decode mi_X8_fail.2.1 13 = .ok (.aload_n 0, 1) := by decide +kernel
theorem dX8_fail_14 : decode mi_X8_fail.2.1 14 = .ok (.iload_n 2, 1) := by decide +kernel
theorem dX8_fail_15 : decode mi_X8_fail.2.1 15 = .ok (.putfield 456, 3) := by decide +kernel
theorem dX8_fail_18 : decode mi_X8_fail.2.1 18 = .ok (.return_, 1) := by decide +kernel
theorem dX8_isSign_0 : decode mi_X8_isSign.2.1 0 = .ok (.aload_n 0, 1) := by decide +kernel
theorem dX8_isSign_1 : decode mi_X8_isSign.2.1 1 = .ok (.getfield 422, 3) := by decide +kernel
theorem dX8_isSign_4 : decode mi_X8_isSign.2.1 4 = .ok (.iconst 3, 1) := by decide +kernel
theorem dX8_isSign_5 : decode mi_X8_isSign.2.1 5 = .ok (.if_icmp .ne 15, 3) := by decide +kernel
theorem dX8_isSign_8 : decode mi_X8_isSign.2.1 8 = .ok (.aload_n 0, 1) := by decide +kernel
theorem dX8_isSign_9 : decode mi_X8_isSign.2.1 9 = .ok (.getfield 442, 3) := by decide +kernel
theorem dX8_isSign_12 : decode mi_X8_isSign.2.1 12 = .ok (.iload_n 1, 1) := by decide +kernel
theorem dX8_isSign_13 : decode mi_X8_isSign.2.1 13 = .ok (.if_icmp .ne 7, 3) := by decide +kernel
theorem dX8_isSign_16 : decode mi_X8_isSign.2.1 16 = .ok (.iconst 1, 1) := by decide +kernel
theorem dX8_isSign_17 : decode mi_X8_isSign.2.1 17 = .ok (.goto 4, 3) := by decide +kernel
theorem dX8_isSign_20 : decode mi_X8_isSign.2.1 20 = .ok (.iconst 0, 1) := by decide +kernel
theorem dX8_isSign_21 : decode mi_X8_isSign.2.1 21 = .ok (.ireturn, 1) := by decide +kernel
theorem dX8_mark_0 : decode mi_X8_mark.2.1 0 = .ok (.aload_n 0, 1) := by decide +kernel
theorem dX8_mark_1 : decode mi_X8_mark.2.1 1 = .ok (.getfield 139, 3) := by decide +kernel
theorem dX8_mark_4 : decode mi_X8_mark.2.1 4 = .ok (.aload_n 0, 1) := by decide +kernel
theorem dX8_mark_5 : decode mi_X8_mark.2.1 5 = .ok (.getfield 500, 3) := by decide +kernel
theorem dX8_mark_8 : decode mi_X8_mark.2.1 8 = .ok (.ldc_w 503, 3) := by decide +kernel
theorem dX8_mark_11 : decode mi_X8_mark.2.1 11 = .ok (.iload_n 1, 1) := by decide +kernel
theorem dX8_mark_12 : decode mi_X8_mark.2.1 12 = .ok (.imul, 1) := by decide +kernel
theorem dX8_mark_13 : decode mi_X8_mark.2.1 13 = .ok (.iload_n 2, 1) := by decide +kernel
theorem dX8_mark_14 : decode mi_X8_mark.2.1 14 = .ok (.iadd, 1) := by decide +kernel
theorem dX8_mark_15 : decode mi_X8_mark.2.1 15 = .ok (.iastore, 1) := by decide +kernel
theorem dX8_mark_16 : decode mi_X8_mark.2.1 16 = .ok (.aload_n 0, 1) := by decide +kernel
theorem dX8_mark_17 : decode mi_X8_mark.2.1 17 = .ok (.dup, 1) := by decide +kernel
theorem dX8_mark_18 : decode mi_X8_mark.2.1 18 = .ok (.getfield 500, 3) := by decide +kernel
theorem dX8_mark_21 : decode mi_X8_mark.2.1 21 = .ok (.iconst 1, 1) := by decide +kernel
theorem dX8_mark_22 : decode mi_X8_mark.2.1 22 = .ok (.iadd, 1) := by decide +kernel
theorem dX8_mark_23 : decode mi_X8_mark.2.1 23 = .ok (.putfield 500, 3) := by decide +kernel
theorem dX8_mark_26 : decode mi_X8_mark.2.1 26 = .ok (.return_, 1) := by decide +kernel
theorem dX8_asksFarm_0 : decode mi_X8_asksFarm.2.1 0 = .ok (.aload_n 0, 1) := by decide +kernel
theorem dX8_asksFarm_1 : decode mi_X8_asksFarm.2.1 1 = .ok (.iload_n 1, 1) := by decide +kernel
theorem dX8_asksFarm_2 : decode mi_X8_asksFarm.2.1 2 = .ok (.invokevirtual 318, 3) := by decide +kernel
theorem dX8_asksFarm_5 : decode mi_X8_asksFarm.2.1 5 = .ok (.ifCond .ne 7, 3) := by decide +kernel
theorem dX8_asksFarm_8 : decode mi_X8_asksFarm.2.1 8 = .ok (.iconst 2, 1) := by decide +kernel
theorem dX8_asksFarm_9 : decode mi_X8_asksFarm.2.1 9 = .ok (.goto 22, 3) := by decide +kernel
theorem dX8_asksFarm_12 : decode mi_X8_asksFarm.2.1 12 = .ok (.iload_n 2, 1) := by decide +kernel
theorem dX8_asksFarm_13 : decode mi_X8_asksFarm.2.1 13 = .ok (.invokestatic 335, 3) := by decide +kernel
theorem dX8_asksFarm_16 : decode mi_X8_asksFarm.2.1 16 = .ok (.ifCond .eq 10, 3) := by decide +kernel
theorem dX8_asksFarm_19 : decode mi_X8_asksFarm.2.1 19 = .ok (.iload_n 3, 1) := by decide +kernel
theorem dX8_asksFarm_20 : decode mi_X8_asksFarm.2.1 20 = .ok (.invokestatic 306, 3) := by decide +kernel
theorem dX8_asksFarm_23 : decode mi_X8_asksFarm.2.1 23 = .ok (.ifCond .ne 7, 3) := by decide +kernel
theorem dX8_asksFarm_26 : decode mi_X8_asksFarm.2.1 26 = .ok (.iconst 5, 1) := by decide +kernel
theorem dX8_asksFarm_27 : decode mi_X8_asksFarm.2.1 27 = .ok (.goto 4, 3) := by decide +kernel
theorem dX8_asksFarm_30 : decode mi_X8_asksFarm.2.1 30 = .ok (.iconst 0, 1) := by decide +kernel
theorem dX8_asksFarm_31 : decode mi_X8_asksFarm.2.1 31 = .ok (.ireturn, 1) := by decide +kernel
theorem dX8_numberOf_0 : decode mi_X8_numberOf.2.1 0 = .ok (.aload_n 0, 1) := by decide +kernel
theorem dX8_numberOf_1 : decode mi_X8_numberOf.2.1 1 = .ok (.getfield 16, 3) := by decide +kernel
theorem dX8_numberOf_4 : decode mi_X8_numberOf.2.1 4 = .ok (.bipush 40, 2) := by decide +kernel
theorem dX8_numberOf_6 : decode mi_X8_numberOf.2.1 6 = .ok (.iload_n 1, 1) := by decide +kernel
theorem dX8_numberOf_7 : decode mi_X8_numberOf.2.1 7 = .ok (.imul, 1) := by decide +kernel
theorem dX8_numberOf_8 : decode mi_X8_numberOf.2.1 8 = .ok (.iload_n 2, 1) := by decide +kernel
theorem dX8_numberOf_9 : decode mi_X8_numberOf.2.1 9 = .ok (.iadd, 1) := by decide +kernel
theorem dX8_numberOf_10 : decode mi_X8_numberOf.2.1 10 = .ok (.laload, 1) := by decide +kernel
theorem dX8_numberOf_11 : decode mi_X8_numberOf.2.1 11 = .ok (.lreturn, 1) := by decide +kernel
theorem dX8_canTurn_0 : decode mi_X8_canTurn.2.1 0 = .ok (.iload_n 3, 1) := by decide +kernel
theorem dX8_canTurn_1 : decode mi_X8_canTurn.2.1 1 = .ok (.iload_n 1, 1) := by decide +kernel
theorem dX8_canTurn_2 : decode mi_X8_canTurn.2.1 2 = .ok (.ishr, 1) := by decide +kernel
theorem dX8_canTurn_3 : decode mi_X8_canTurn.2.1 3 = .ok (.iconst 1, 1) := by decide +kernel
theorem dX8_canTurn_4 : decode mi_X8_canTurn.2.1 4 = .ok (.iand, 1) := by decide +kernel
theorem dX8_canTurn_5 : decode mi_X8_canTurn.2.1 5 = .ok (.ifCond .ne 17, 3) := by decide +kernel
theorem dX8_canTurn_8 : decode mi_X8_canTurn.2.1 8 = .ok (.iload_n 2, 1) := by decide +kernel
theorem dX8_canTurn_9 : decode mi_X8_canTurn.2.1 9 = .ok (.aload_n 0, 1) := by decide +kernel
theorem dX8_canTurn_10 : decode mi_X8_canTurn.2.1 10 = .ok (.getfield 224, 3) := by decide +kernel
theorem dX8_canTurn_13 : decode mi_X8_canTurn.2.1 13 = .ok (.iload_n 1, 1) := by decide +kernel
theorem dX8_canTurn_14 : decode mi_X8_canTurn.2.1 14 = .ok (.iaload, 1) := by decide +kernel
theorem dX8_canTurn_15 : decode mi_X8_canTurn.2.1 15 = .ok (.if_icmp .ge 7, 3) := by decide +kernel
theorem dX8_canTurn_18 : decode mi_X8_canTurn.2.1 18 = .ok (.iconst 1, 1) := by decide +kernel
theorem dX8_canTurn_19 : decode mi_X8_canTurn.2.1 19 = .ok (.goto 4, 3) := by decide +kernel
theorem dX8_canTurn_22 : decode mi_X8_canTurn.2.1 22 = .ok (.iconst 0, 1) := by decide +kernel
theorem dX8_canTurn_23 : decode mi_X8_canTurn.2.1 23 = .ok (.ireturn, 1) := by decide +kernel
theorem dJ0_init_2_0 : decode mi_J0_init_2.2.1 0 = .ok (.aload_n 0, 1) := by decide +kernel
theorem dJ0_init_2_1 : decode mi_J0_init_2.2.1 1 = .ok (.invokespecial 1, 3) := by decide +kernel
theorem dJ0_init_2_4 : decode mi_J0_init_2.2.1 4 = .ok (.aload_n 0, 1) := by decide +kernel
theorem dJ0_init_2_5 : decode mi_J0_init_2.2.1 5 = .ok (.aload_n 0, 1) := by decide +kernel
theorem dJ0_init_2_6 : decode mi_J0_init_2.2.1 6 = .ok (.putfield 7, 3) := by decide +kernel
theorem dJ0_init_2_9 : decode mi_J0_init_2.2.1 9 = .ok (.aload_n 0, 1) := by decide +kernel
theorem dJ0_init_2_10 : decode mi_J0_init_2.2.1 10 = .ok (.getstatic 13, 3) := by decide +kernel
theorem dJ0_init_2_13 : decode mi_J0_init_2.2.1 13 = .ok (.putfield 17, 3) := by decide +kernel
theorem dJ0_init_2_16 : decode mi_J0_init_2.2.1 16 = .ok (.aload_n 0, 1) := by decide +kernel
theorem dJ0_init_2_17 : decode mi_J0_init_2.2.1 17 = .ok (.getstatic 20, 3) := by decide +kernel
theorem dJ0_init_2_20 : decode mi_J0_init_2.2.1 20 = .ok (.putfield 24, 3) := by decide +kernel
theorem dJ0_init_2_23 : decode mi_J0_init_2.2.1 23 = .ok (.iload 4, 2) := by decide +kernel
theorem dJ0_init_2_25 : decode mi_J0_init_2.2.1 25 = .ok (.ifCond .eq 11, 3) := by decide +kernel
theorem dJ0_init_2_28 : decode mi_J0_init_2.2.1 28 = .ok (.aload_n 0, 1) := by decide +kernel
theorem dJ0_init_2_29 : decode mi_J0_init_2.2.1 29 = .ok (.invokevirtual 27, 3) := by decide +kernel
theorem dJ0_init_2_32 : decode mi_J0_init_2.2.1 32 = .ok (.pop, 1) := by decide +kernel
theorem dJ0_init_2_33 : decode mi_J0_init_2.2.1 33 = .ok (.goto 8, 3) := by decide +kernel
theorem dJ0_init_2_36 : decode mi_J0_init_2.2.1 36 = .ok (.aload_n 0, 1) := by decide +kernel
theorem dJ0_init_2_37 : decode mi_J0_init_2.2.1 37 = .ok (.aconst_null, 1) := by decide +kernel
theorem dJ0_init_2_38 : decode mi_J0_init_2.2.1 38 = .ok (.putfield 17, 3) := by decide +kernel
theorem dJ0_init_2_41 : decode mi_J0_init_2.2.1 41 = .ok (.aload_n 0, 1) := by decide +kernel
theorem dJ0_init_2_42 : decode mi_J0_init_2.2.1 42 = .ok (.aload_n 1, 1) := by decide +kernel
theorem dJ0_init_2_43 : decode mi_J0_init_2.2.1 43 = .ok (.putfield 31, 3) := by decide +kernel
theorem dJ0_init_2_46 : decode mi_J0_init_2.2.1 46 = .ok (.aload_n 0, 1) := by decide +kernel
theorem dJ0_init_2_47 : decode mi_J0_init_2.2.1 47 = .ok (.aload_n 2, 1) := by decide +kernel
theorem dJ0_init_2_48 : decode mi_J0_init_2.2.1 48 = .ok (.putfield 7, 3) := by decide +kernel
theorem dJ0_init_2_51 : decode mi_J0_init_2.2.1 51 = .ok (.iload_n 3, 1) := by decide +kernel
theorem dJ0_init_2_52 : decode mi_J0_init_2.2.1 52 = .ok (.ifCond .ne 8, 3) := by decide +kernel
theorem dJ0_init_2_55 : decode mi_J0_init_2.2.1 55 = .ok (.aload_n 0, 1) := by decide +kernel
theorem dJ0_init_2_56 : decode mi_J0_init_2.2.1 56 = .ok (.aconst_null, 1) := by decide +kernel
theorem dJ0_init_2_57 : decode mi_J0_init_2.2.1 57 = .ok (.putfield 24, 3) := by decide +kernel
theorem dJ0_init_2_60 : decode mi_J0_init_2.2.1 60 = .ok (.return_, 1) := by decide +kernel
theorem dJ1_init_0 : decode mi_J1_init.2.1 0 = .ok (.aload_n 0, 1) := by decide +kernel
theorem dJ1_init_1 : decode mi_J1_init.2.1 1 = .ok (.aload_n 1, 1) := by decide +kernel
theorem dJ1_init_2 : decode mi_J1_init.2.1 2 = .ok (.aload_n 2, 1) := by decide +kernel
theorem dJ1_init_3 : decode mi_J1_init.2.1 3 = .ok (.iload_n 3, 1) := by decide +kernel
theorem dJ1_init_4 : decode mi_J1_init.2.1 4 = .ok (.iload 4, 2) := by decide +kernel
theorem dJ1_init_6 : decode mi_J1_init.2.1 6 = .ok (.invokespecial 16, 3) := by decide +kernel
theorem dJ1_init_9 : decode mi_J1_init.2.1 9 = .ok (.return_, 1) := by decide +kernel
theorem dJ10_checkIndex_0 : decode mi_J10_checkIndex.2.1 0 = .ok (.iload_n 0, 1) := by decide +kernel
theorem dJ10_checkIndex_1 : decode mi_J10_checkIndex.2.1 1 = .ok (.ifCond .lt 8, 3) := by decide +kernel
theorem dJ10_checkIndex_4 : decode mi_J10_checkIndex.2.1 4 = .ok (.iload_n 0, 1) := by decide +kernel
theorem dJ10_checkIndex_5 : decode mi_J10_checkIndex.2.1 5 = .ok (.iload_n 1, 1) := by decide +kernel
theorem dJ10_checkIndex_6 : decode mi_J10_checkIndex.2.1 6 = .ok (.if_icmp .lt 10, 3) := by decide +kernel
theorem dJ10_checkIndex_9 : decode mi_J10_checkIndex.2.1 9 = .ok (.aload_n 2, 1) := by decide +kernel
theorem dJ10_checkIndex_10 : decode mi_J10_checkIndex.2.1 10 = .ok (.iload_n 0, 1) := by decide +kernel
theorem dJ10_checkIndex_11 : decode mi_J10_checkIndex.2.1 11 = .ok (.iload_n 1, 1) := by decide +kernel
theorem dJ10_checkIndex_12 : decode mi_J10_checkIndex.2.1 12 = .ok (.invokestatic 95, 3) := by decide +kernel
theorem dJ10_checkIndex_15 : decode mi_J10_checkIndex.2.1 15 = .ok (.athrow, 1) := by decide +kernel
theorem dJ10_checkIndex_16 : decode mi_J10_checkIndex.2.1 16 = .ok (.iload_n 0, 1) := by decide +kernel
theorem dJ10_checkIndex_17 : decode mi_J10_checkIndex.2.1 17 = .ok (.ireturn, 1) := by decide +kernel
theorem dJ2_init_0 : decode mi_J2_init.2.1 0 = .ok (.aload_n 0, 1) := by decide +kernel
theorem dJ2_init_1 : decode mi_J2_init.2.1 1 = .ok (.aload_n 1, 1) := by decide +kernel
theorem dJ2_init_2 : decode mi_J2_init.2.1 2 = .ok (.aload_n 2, 1) := by decide +kernel
theorem dJ2_init_3 : decode mi_J2_init.2.1 3 = .ok (.iload_n 3, 1) := by decide +kernel
theorem dJ2_init_4 : decode mi_J2_init.2.1 4 = .ok (.iload 4, 2) := by decide +kernel
theorem dJ2_init_6 : decode mi_J2_init.2.1 6 = .ok (.invokespecial 16, 3) := by decide +kernel
theorem dJ2_init_9 : decode mi_J2_init.2.1 9 = .ok (.return_, 1) := by decide +kernel
theorem dJ4_length_0 : decode mi_J4_length.2.1 0 = .ok (.aload_n 0, 1) := by decide +kernel
theorem dJ4_length_1 : decode mi_J4_length.2.1 1 = .ok (.getfield 9, 3) := by decide +kernel
theorem dJ4_length_4 : decode mi_J4_length.2.1 4 = .ok (.arraylength, 1) := by decide +kernel
theorem dJ4_length_5 : decode mi_J4_length.2.1 5 = .ok (.aload_n 0, 1) := by decide +kernel
theorem dJ4_length_6 : decode mi_J4_length.2.1 6 = .ok (.invokevirtual 335, 3) := by decide +kernel
theorem dJ4_length_9 : decode mi_J4_length.2.1 9 = .ok (.ishr, 1) := by decide +kernel
theorem dJ4_length_10 : decode mi_J4_length.2.1 10 = .ok (.ireturn, 1) := by decide +kernel
theorem dJ4_coder_0 : decode mi_J4_coder.2.1 0 = .ok (.getstatic 38, 3) := by decide +kernel
theorem dJ4_coder_3 : decode mi_J4_coder.2.1 3 = .ok (.ifCond .eq 10, 3) := by decide +kernel
theorem dJ4_coder_6 : decode mi_J4_coder.2.1 6 = .ok (.aload_n 0, 1) := by decide +kernel
theorem dJ4_coder_7 : decode mi_J4_coder.2.1 7 = .ok (.getfield 15, 3) := by decide +kernel
theorem dJ4_coder_10 : decode mi_J4_coder.2.1 10 = .ok (.goto 4, 3) := by decide +kernel
theorem dJ4_coder_13 : decode mi_J4_coder.2.1 13 = .ok (.iconst 1, 1) := by decide +kernel
theorem dJ4_coder_14 : decode mi_J4_coder.2.1 14 = .ok (.ireturn, 1) := by decide +kernel
theorem dJ4_charAt_0 : decode mi_J4_charAt.2.1 0 = .ok (.aload_n 0, 1) := by decide +kernel
theorem dJ4_charAt_1 : decode mi_J4_charAt.2.1 1 = .ok (.invokevirtual 492, 3) := by decide +kernel
theorem dJ4_charAt_4 : decode mi_J4_charAt.2.1 4 = .ok (.ifCond .eq 12, 3) := by decide +kernel
theorem dJ4_charAt_7 : decode mi_J4_charAt.2.1 7 = .ok (.aload_n 0, 1) := by decide +kernel
theorem dJ4_charAt_8 : decode mi_J4_charAt.2.1 8 = .ok (.getfield 9, 3) := by decide +kernel
theorem dJ4_charAt_11 : decode mi_J4_charAt.2.1 11 = .ok (.iload_n 1, 1) := by decide +kernel
theorem dJ4_charAt_12 : decode mi_J4_charAt.2.1 12 = .ok (.invokestatic 495, 3) := by decide +kernel
theorem dJ4_charAt_15 : decode mi_J4_charAt.2.1 15 = .ok (.ireturn, 1) := by decide +kernel
theorem dJ4_charAt_16 : decode mi_J4_charAt.2.1 16 = .ok (.aload_n 0, 1) := by decide +kernel
theorem dJ4_charAt_17 : decode mi_J4_charAt.2.1 17 = .ok (.getfield 9, 3) := by decide +kernel
theorem dJ4_charAt_20 : decode mi_J4_charAt.2.1 20 = .ok (.iload_n 1, 1) := by decide +kernel
theorem dJ4_charAt_21 : decode mi_J4_charAt.2.1 21 = .ok (.invokestatic 498, 3) := by decide +kernel
theorem dJ4_charAt_24 : decode mi_J4_charAt.2.1 24 = .ok (.ireturn, 1) := by decide +kernel
theorem dJ4_isLatin1_0 : decode mi_J4_isLatin1.2.1 0 = .ok (.getstatic 38, 3) := by decide +kernel
theorem dJ4_isLatin1_3 : decode mi_J4_isLatin1.2.1 3 = .ok (.ifCond .eq 14, 3) := by decide +kernel
theorem dJ4_isLatin1_6 : decode mi_J4_isLatin1.2.1 6 = .ok (.aload_n 0, 1) := by decide +kernel
theorem dJ4_isLatin1_7 : decode mi_J4_isLatin1.2.1 7 = .ok (.getfield 15, 3) := by decide +kernel
theorem dJ4_isLatin1_10 : decode mi_J4_isLatin1.2.1 10 = .ok (.ifCond .ne 7, 3) := by decide +kernel
theorem dJ4_isLatin1_13 : decode mi_J4_isLatin1.2.1 13 = .ok (.iconst 1, 1) := by decide +kernel
theorem dJ4_isLatin1_14 : decode mi_J4_isLatin1.2.1 14 = .ok (.goto 4, 3) := by decide +kernel
theorem dJ4_isLatin1_17 : decode mi_J4_isLatin1.2.1 17 = .ok (.iconst 0, 1) := by decide +kernel
theorem dJ4_isLatin1_18 : decode mi_J4_isLatin1.2.1 18 = .ok (.ireturn, 1) := by decide +kernel
theorem dJ4_checkIndex_0 : decode mi_J4_checkIndex.2.1 0 = .ok (.iload_n 0, 1) := by decide +kernel
theorem dJ4_checkIndex_1 : decode mi_J4_checkIndex.2.1 1 = .ok (.iload_n 1, 1) := by decide +kernel
theorem dJ4_checkIndex_2 : decode mi_J4_checkIndex.2.1 2 = .ok (.getstatic 1053, 3) := by decide +kernel
theorem dJ4_checkIndex_5 : decode mi_J4_checkIndex.2.1 5 = .ok (.invokestatic 1059, 3) := by decide +kernel
theorem dJ4_checkIndex_8 : decode mi_J4_checkIndex.2.1 8 = .ok (.pop, 1) := by decide +kernel
theorem dJ4_checkIndex_9 : decode mi_J4_checkIndex.2.1 9 = .ok (.return_, 1) := by decide +kernel
theorem dJ9_charAt_0 : decode mi_J9_charAt.2.1 0 = .ok (.iload_n 1, 1) := by decide +kernel
theorem dJ9_charAt_1 : decode mi_J9_charAt.2.1 1 = .ok (.aload_n 0, 1) := by decide +kernel
theorem dJ9_charAt_2 : decode mi_J9_charAt.2.1 2 = .ok (.arraylength, 1) := by decide +kernel
theorem dJ9_charAt_3 : decode mi_J9_charAt.2.1 3 = .ok (.invokestatic 9, 3) := by decide +kernel
theorem dJ9_charAt_6 : decode mi_J9_charAt.2.1 6 = .ok (.aload_n 0, 1) := by decide +kernel
theorem dJ9_charAt_7 : decode mi_J9_charAt.2.1 7 = .ok (.iload_n 1, 1) := by decide +kernel
theorem dJ9_charAt_8 : decode mi_J9_charAt.2.1 8 = .ok (.baload, 1) := by decide +kernel
theorem dJ9_charAt_9 : decode mi_J9_charAt.2.1 9 = .ok (.sipush 255, 3) := by decide +kernel
theorem dJ9_charAt_12 : decode mi_J9_charAt.2.1 12 = .ok (.iand, 1) := by decide +kernel
theorem dJ9_charAt_13 : decode mi_J9_charAt.2.1 13 = .ok (.i2c, 1) := by decide +kernel
theorem dJ9_charAt_14 : decode mi_J9_charAt.2.1 14 = .ok (.ireturn, 1) := by decide +kernel
theorem dX0_isTray_0 : decode mi_X0_isTray.2.1 0 = .ok (.iload_n 0, 1) := by decide +kernel
theorem dX0_isTray_1 : decode mi_X0_isTray.2.1 1 = .ok (.ifCond .lt 12, 3) := by decide +kernel
theorem dX0_isTray_4 : decode mi_X0_isTray.2.1 4 = .ok (.iload_n 0, 1) := by decide +kernel
theorem dX0_isTray_5 : decode mi_X0_isTray.2.1 5 = .ok (.iconst 4, 1) := by decide +kernel
theorem dX0_isTray_6 : decode mi_X0_isTray.2.1 6 = .ok (.if_icmp .ge 7, 3) := by decide +kernel
theorem dX0_isTray_9 : decode mi_X0_isTray.2.1 9 = .ok (.iconst 1, 1) := by decide +kernel
theorem dX0_isTray_10 : decode mi_X0_isTray.2.1 10 = .ok (.goto 4, 3) := by decide +kernel
theorem dX0_isTray_13 : decode mi_X0_isTray.2.1 13 = .ok (.iconst 0, 1) := by decide +kernel
theorem dX0_isTray_14 : decode mi_X0_isTray.2.1 14 = .ok (.ireturn, 1) := by decide +kernel
theorem dX0_is_0 : decode mi_X0_is.2.1 0 = .ok (.aload_n 0, 1) := by decide +kernel
theorem dX0_is_1 : decode mi_X0_is.2.1 1 = .ok (.iload_n 1, 1) := by decide +kernel
theorem dX0_is_2 : decode mi_X0_is.2.1 2 = .ok (.putfield 181, 3) := by decide +kernel
theorem dX0_is_5 : decode mi_X0_is.2.1 5 = .ok (.iload_n 1, 1) := by decide +kernel
theorem dX0_is_6 : decode mi_X0_is.2.1 6 = .ok (.ifCond .ne 7, 3) := by decide +kernel
theorem dX0_is_9 : decode mi_X0_is.2.1 9 = .ok (.iconst 1, 1) := by decide +kernel
theorem dX0_is_10 : decode mi_X0_is.2.1 10 = .ok (.goto 4, 3) := by decide +kernel
theorem dX0_is_13 : decode mi_X0_is.2.1 13 = .ok (.iconst 0, 1) := by decide +kernel
theorem dX0_is_14 : decode mi_X0_is.2.1 14 = .ok (.ireturn, 1) := by decide +kernel
theorem dX0_none_0 : decode mi_X0_none.2.1 0 = .ok (.aload_n 0, 1) := by decide +kernel
theorem dX0_none_1 : decode mi_X0_none.2.1 1 = .ok (.iload_n 1, 1) := by decide +kernel
theorem dX0_none_2 : decode mi_X0_none.2.1 2 = .ok (.putfield 181, 3) := by decide +kernel
theorem dX0_none_5 : decode mi_X0_none.2.1 5 = .ok (.iconst (-1), 1) := by decide +kernel
theorem dX0_none_6 : decode mi_X0_none.2.1 6 = .ok (.ireturn, 1) := by decide +kernel
theorem dX0_isDistrict_0 : decode mi_X0_isDistrict.2.1 0 = .ok (.iload_n 0, 1) := by decide +kernel
theorem dX0_isDistrict_1 : decode mi_X0_isDistrict.2.1 1 = .ok (.ifCond .lt 13, 3) := by decide +kernel
theorem dX0_isDistrict_4 : decode mi_X0_isDistrict.2.1 4 = .ok (.iload_n 0, 1) := by decide +kernel
theorem dX0_isDistrict_5 : decode mi_X0_isDistrict.2.1 5 = .ok (.bipush 6, 2) := by decide +kernel
theorem dX0_isDistrict_7 : decode mi_X0_isDistrict.2.1 7 = .ok (.if_icmp .ge 7, 3) := by decide +kernel
theorem dX0_isDistrict_10 : decode mi_X0_isDistrict.2.1 10 = .ok (.iconst 1, 1) := by decide +kernel
theorem dX0_isDistrict_11 : decode mi_X0_isDistrict.2.1 11 = .ok (.goto 4, 3) := by decide +kernel
theorem dX0_isDistrict_14 : decode mi_X0_isDistrict.2.1 14 = .ok (.iconst 0, 1) := by decide +kernel
theorem dX0_isDistrict_15 : decode mi_X0_isDistrict.2.1 15 = .ok (.ireturn, 1) := by decide +kernel
theorem dX0_isFrom_0 : decode mi_X0_isFrom.2.1 0 = .ok (.lload_n 0, 1) := by decide +kernel
theorem dX0_isFrom_1 : decode mi_X0_isFrom.2.1 1 = .ok (.lload_n 2, 1) := by decide +kernel
theorem dX0_isFrom_2 : decode mi_X0_isFrom.2.1 2 = .ok (.lcmp, 1) := by decide +kernel
theorem dX0_isFrom_3 : decode mi_X0_isFrom.2.1 3 = .ok (.ifCond .lt 14, 3) := by decide +kernel
theorem dX0_isFrom_6 : decode mi_X0_isFrom.2.1 6 = .ok (.lload_n 0, 1) := by decide +kernel
theorem dX0_isFrom_7 : decode mi_X0_isFrom.2.1 7 = .ok (.lload 4, 2) := by decide +kernel
theorem dX0_isFrom_9 : decode mi_X0_isFrom.2.1 9 = .ok (.lcmp, 1) := by decide +kernel
theorem dX0_isFrom_10 : decode mi_X0_isFrom.2.1 10 = .ok (.ifCond .gt 7, 3) := by decide +kernel
theorem dX0_isFrom_13 : decode mi_X0_isFrom.2.1 13 = .ok (.iconst 1, 1) := by decide +kernel
theorem dX0_isFrom_14 : decode mi_X0_isFrom.2.1 14 = .ok (.goto 4, 3) := by decide +kernel
theorem dX0_isFrom_17 : decode mi_X0_isFrom.2.1 17 = .ok (.iconst 0, 1) := by decide +kernel
theorem dX0_isFrom_18 : decode mi_X0_isFrom.2.1 18 = .ok (.ireturn, 1) := by decide +kernel
theorem dX0_gives_0 : decode mi_X0_gives.2.1 0 = .ok (.aload_n 0, 1) := by decide +kernel
theorem dX0_gives_1 : decode mi_X0_gives.2.1 1 = .ok (.iconst 0, 1) := by decide +kernel
theorem dX0_gives_2 : decode mi_X0_gives.2.1 2 = .ok (.putfield 181, 3) := by decide +kernel
theorem dX0_gives_5 : decode mi_X0_gives.2.1 5 = .ok (.iload_n 1, 1) := by decide +kernel
theorem dX0_gives_6 : decode mi_X0_gives.2.1 6 = .ok (.ireturn, 1) := by decide +kernel
theorem dX0_isFarm_0 : decode mi_X0_isFarm.2.1 0 = .ok (.iload_n 1, 1) := by decide +kernel
theorem dX0_isFarm_1 : decode mi_X0_isFarm.2.1 1 = .ok (.ifCond .lt 15, 3) := by decide +kernel
theorem dX0_isFarm_4 : decode mi_X0_isFarm.2.1 4 = .ok (.iload_n 1, 1) := by decide +kernel
theorem dX0_isFarm_5 : decode mi_X0_isFarm.2.1 5 = .ok (.aload_n 0, 1) := by decide +kernel
theorem dX0_isFarm_6 : decode mi_X0_isFarm.2.1 6 = .ok (.getfield 230, 3) := by decide +kernel
theorem dX0_isFarm_9 : decode mi_X0_isFarm.2.1 9 = .ok (.if_icmp .ge 7, 3) := by decide +kernel
theorem dX0_isFarm_12 : decode mi_X0_isFarm.2.1 12 = .ok (.iconst 1, 1) := by decide +kernel
theorem dX0_isFarm_13 : decode mi_X0_isFarm.2.1 13 = .ok (.goto 4, 3) := by decide +kernel
theorem dX0_isFarm_16 : decode mi_X0_isFarm.2.1 16 = .ok (.iconst 0, 1) := by decide +kernel
theorem dX0_isFarm_17 : decode mi_X0_isFarm.2.1 17 = .ok (.ireturn, 1) := by decide +kernel
theorem dX0_isElevator_0 : decode mi_X0_isElevator.2.1 0 = .ok (.iload_n 1, 1) := by decide +kernel
theorem dX0_isElevator_1 : decode mi_X0_isElevator.2.1 1 = .ok (.ifCond .lt 15, 3) := by decide +kernel
theorem dX0_isElevator_4 : decode mi_X0_isElevator.2.1 4 = .ok (.iload_n 1, 1) := by decide +kernel
theorem dX0_isElevator_5 : decode mi_X0_isElevator.2.1 5 = .ok (.aload_n 0, 1) := by decide +kernel
theorem dX0_isElevator_6 : decode mi_X0_isElevator.2.1 6 = .ok (.getfield 233, 3) := by decide +kernel
theorem dX0_isElevator_9 : decode mi_X0_isElevator.2.1 9 = .ok (.if_icmp .ge 7, 3) := by decide +kernel
theorem dX0_isElevator_12 : decode mi_X0_isElevator.2.1 12 = .ok (.iconst 1, 1) := by decide +kernel
theorem dX0_isElevator_13 : decode mi_X0_isElevator.2.1 13 = .ok (.goto 4, 3) := by decide +kernel
theorem dX0_isElevator_16 : decode mi_X0_isElevator.2.1 16 = .ok (.iconst 0, 1) := by decide +kernel
theorem dX0_isElevator_17 : decode mi_X0_isElevator.2.1 17 = .ok (.ireturn, 1) := by decide +kernel
theorem dX0_isWeek_0 : decode mi_X0_isWeek.2.1 0 = .ok (.iload_n 0, 1) := by decide +kernel
theorem dX0_isWeek_1 : decode mi_X0_isWeek.2.1 1 = .ok (.ifCond .lt 14, 3) := by decide +kernel
theorem dX0_isWeek_4 : decode mi_X0_isWeek.2.1 4 = .ok (.iload_n 0, 1) := by decide +kernel
theorem dX0_isWeek_5 : decode mi_X0_isWeek.2.1 5 = .ok (.sipush 520, 3) := by decide +kernel
theorem dX0_isWeek_8 : decode mi_X0_isWeek.2.1 8 = .ok (.if_icmp .ge 7, 3) := by decide +kernel
theorem dX0_isWeek_11 : decode mi_X0_isWeek.2.1 11 = .ok (.iconst 1, 1) := by decide +kernel
theorem dX0_isWeek_12 : decode mi_X0_isWeek.2.1 12 = .ok (.goto 4, 3) := by decide +kernel
theorem dX0_isWeek_15 : decode mi_X0_isWeek.2.1 15 = .ok (.iconst 0, 1) := by decide +kernel
theorem dX0_isWeek_16 : decode mi_X0_isWeek.2.1 16 = .ok (.ireturn, 1) := by decide +kernel
theorem dX0_isPort_0 : decode mi_X0_isPort.2.1 0 = .ok (.iload_n 0, 1) := by decide +kernel
theorem dX0_isPort_1 : decode mi_X0_isPort.2.1 1 = .ok (.ifCond .lt 12, 3) := by decide +kernel
theorem dX0_isPort_4 : decode mi_X0_isPort.2.1 4 = .ok (.iload_n 0, 1) := by decide +kernel
theorem dX0_isPort_5 : decode mi_X0_isPort.2.1 5 = .ok (.iconst 2, 1) := by decide +kernel
theorem dX0_isPort_6 : decode mi_X0_isPort.2.1 6 = .ok (.if_icmp .ge 7, 3) := by decide +kernel
theorem dX0_isPort_9 : decode mi_X0_isPort.2.1 9 = .ok (.iconst 1, 1) := by decide +kernel
theorem dX0_isPort_10 : decode mi_X0_isPort.2.1 10 = .ok (.goto 4, 3) := by decide +kernel
theorem dX0_isPort_13 : decode mi_X0_isPort.2.1 13 = .ok (.iconst 0, 1) := by decide +kernel
theorem dX0_isPort_14 : decode mi_X0_isPort.2.1 14 = .ok (.ireturn, 1) := by decide +kernel
theorem dX0_isGrade_0 : decode mi_X0_isGrade.2.1 0 = .ok (.iload_n 0, 1) := by decide +kernel
theorem dX0_isGrade_1 : decode mi_X0_isGrade.2.1 1 = .ok (.ifCond .lt 13, 3) := by decide +kernel
theorem dX0_isGrade_4 : decode mi_X0_isGrade.2.1 4 = .ok (.iload_n 0, 1) := by decide +kernel
theorem dX0_isGrade_5 : decode mi_X0_isGrade.2.1 5 = .ok (.bipush 6, 2) := by decide +kernel
theorem dX0_isGrade_7 : decode mi_X0_isGrade.2.1 7 = .ok (.if_icmp .ge 7, 3) := by decide +kernel
theorem dX0_isGrade_10 : decode mi_X0_isGrade.2.1 10 = .ok (.iconst 1, 1) := by decide +kernel
theorem dX0_isGrade_11 : decode mi_X0_isGrade.2.1 11 = .ok (.goto 4, 3) := by decide +kernel
theorem dX0_isGrade_14 : decode mi_X0_isGrade.2.1 14 = .ok (.iconst 0, 1) := by decide +kernel
theorem dX0_isGrade_15 : decode mi_X0_isGrade.2.1 15 = .ok (.ireturn, 1) := by decide +kernel
theorem dX0_isYear_0 : decode mi_X0_isYear.2.1 0 = .ok (.iload_n 0, 1) := by decide +kernel
theorem dX0_isYear_1 : decode mi_X0_isYear.2.1 1 = .ok (.ifCond .lt 13, 3) := by decide +kernel
theorem dX0_isYear_4 : decode mi_X0_isYear.2.1 4 = .ok (.iload_n 0, 1) := by decide +kernel
theorem dX0_isYear_5 : decode mi_X0_isYear.2.1 5 = .ok (.bipush 10, 2) := by decide +kernel
theorem dX0_isYear_7 : decode mi_X0_isYear.2.1 7 = .ok (.if_icmp .ge 7, 3) := by decide +kernel
theorem dX0_isYear_10 : decode mi_X0_isYear.2.1 10 = .ok (.iconst 1, 1) := by decide +kernel
theorem dX0_isYear_11 : decode mi_X0_isYear.2.1 11 = .ok (.goto 4, 3) := by decide +kernel
theorem dX0_isYear_14 : decode mi_X0_isYear.2.1 14 = .ok (.iconst 0, 1) := by decide +kernel
theorem dX0_isYear_15 : decode mi_X0_isYear.2.1 15 = .ok (.ireturn, 1) := by decide +kernel
theorem dX0_isLoad_0 : decode mi_X0_isLoad.2.1 0 = .ok (.iload_n 1, 1) := by decide +kernel
theorem dX0_isLoad_1 : decode mi_X0_isLoad.2.1 1 = .ok (.ifCond .lt 27, 3) := by decide +kernel
theorem dX0_isLoad_4 : decode mi_X0_isLoad.2.1 4 = .ok (.iload_n 1, 1) := by decide +kernel
theorem dX0_isLoad_5 : decode mi_X0_isLoad.2.1 5 = .ok (.aload_n 0, 1) := by decide +kernel
theorem dX0_isLoad_6 : decode mi_X0_isLoad.2.1 6 = .ok (.getfield 263, 3) := by decide +kernel
theorem dX0_isLoad_9 : decode mi_X0_isLoad.2.1 9 = .ok (.if_icmp .ge 19, 3) := by decide +kernel
theorem dX0_isLoad_12 : decode mi_X0_isLoad.2.1 12 = .ok (.aload_n 0, 1) := by decide +kernel
theorem dX0_isLoad_13 : decode mi_X0_isLoad.2.1 13 = .ok (.getfield 29, 3) := by decide +kernel
theorem dX0_isLoad_16 : decode mi_X0_isLoad.2.1 16 = .ok (.iload_n 1, 1) := by decide +kernel
theorem dX0_isLoad_17 : decode mi_X0_isLoad.2.1 17 = .ok (.aaload, 1) := by decide +kernel
theorem dX0_isLoad_18 : decode mi_X0_isLoad.2.1 18 = .ok (.instanceof 289, 3) := by decide +kernel
theorem dX0_isLoad_21 : decode mi_X0_isLoad.2.1 21 = .ok (.ifCond .eq 7, 3) := by decide +kernel
theorem dX0_isLoad_24 : decode mi_X0_isLoad.2.1 24 = .ok (.iconst 1, 1) := by decide +kernel
theorem dX0_isLoad_25 : decode mi_X0_isLoad.2.1 25 = .ok (.goto 4, 3) := by decide +kernel
theorem dX0_isLoad_28 : decode mi_X0_isLoad.2.1 28 = .ok (.iconst 0, 1) := by decide +kernel
theorem dX0_isLoad_29 : decode mi_X0_isLoad.2.1 29 = .ok (.ireturn, 1) := by decide +kernel
theorem dX0_told_0 : decode mi_X0_told.2.1 0 = .ok (.aload_n 0, 1) := by decide +kernel
theorem dX0_told_1 : decode mi_X0_told.2.1 1 = .ok (.iload_n 2, 1) := by decide +kernel
theorem dX0_told_2 : decode mi_X0_told.2.1 2 = .ok (.iconst (-1), 1) := by decide +kernel
theorem dX0_told_3 : decode mi_X0_told.2.1 3 = .ok (.if_icmp .ne 10, 3) := by decide +kernel
theorem dX0_told_6 : decode mi_X0_told.2.1 6 = .ok (.aload_n 1, 1) := by decide +kernel
theorem dX0_told_7 : decode mi_X0_told.2.1 7 = .ok (.getfield 379, 3) := by decide +kernel
theorem dX0_told_10 : decode mi_X0_told.2.1 10 = .ok (.goto 9, 3) := by decide +kernel
theorem dX0_told_13 : decode mi_X0_told.2.1 13 = .ok (.aload_n 1, 1) := by decide +kernel
theorem dX0_told_14 : decode mi_X0_told.2.1 14 = .ok (.getfield 384, 3) := by decide +kernel
theorem dX0_told_17 : decode mi_X0_told.2.1 17 = .ok (.iload_n 2, 1) := by decide +kernel
theorem dX0_told_18 : decode mi_X0_told.2.1 18 = .ok (.iaload, 1) := by decide +kernel
theorem dX0_told_19 : decode mi_X0_told.2.1 19 = .ok (.invokevirtual 250, 3) := by decide +kernel
theorem dX0_told_22 : decode mi_X0_told.2.1 22 = .ok (.ireturn, 1) := by decide +kernel
theorem dX0_givesLong_0 : decode mi_X0_givesLong.2.1 0 = .ok (.aload_n 0, 1) := by decide +kernel
theorem dX0_givesLong_1 : decode mi_X0_givesLong.2.1 1 = .ok (.iconst 0, 1) := by decide +kernel
theorem dX0_givesLong_2 : decode mi_X0_givesLong.2.1 2 = .ok (.putfield 181, 3) := by decide +kernel
theorem dX0_givesLong_5 : decode mi_X0_givesLong.2.1 5 = .ok (.lload_n 1, 1) := by decide +kernel
theorem dX0_givesLong_6 : decode mi_X0_givesLong.2.1 6 = .ok (.lreturn, 1) := by decide +kernel
theorem dX0_wrongYear_0 : decode mi_X0_wrongYear.2.1 0 = .ok (.aload_n 0, 1) := by decide +kernel
theorem dX0_wrongYear_1 : decode mi_X0_wrongYear.2.1 1 = .ok (.iload_n 1, 1) := by decide +kernel
theorem dX0_wrongYear_2 : decode mi_X0_wrongYear.2.1 2 = .ok (.invokevirtual 275, 3) := by decide +kernel
theorem dX0_wrongYear_5 : decode mi_X0_wrongYear.2.1 5 = .ok (.ifCond .ne 7, 3) := by decide +kernel
theorem dX0_wrongYear_8 : decode mi_X0_wrongYear.2.1 8 = .ok (.iconst 2, 1) := by decide +kernel
theorem dX0_wrongYear_9 : decode mi_X0_wrongYear.2.1 9 = .ok (.goto 22, 3) := by decide +kernel
theorem dX0_wrongYear_12 : decode mi_X0_wrongYear.2.1 12 = .ok (.iload_n 2, 1) := by decide +kernel
theorem dX0_wrongYear_13 : decode mi_X0_wrongYear.2.1 13 = .ok (.invokestatic 304, 3) := by decide +kernel
theorem dX0_wrongYear_16 : decode mi_X0_wrongYear.2.1 16 = .ok (.ifCond .eq 10, 3) := by decide +kernel
theorem dX0_wrongYear_19 : decode mi_X0_wrongYear.2.1 19 = .ok (.iload_n 3, 1) := by decide +kernel
theorem dX0_wrongYear_20 : decode mi_X0_wrongYear.2.1 20 = .ok (.invokestatic 260, 3) := by decide +kernel
theorem dX0_wrongYear_23 : decode mi_X0_wrongYear.2.1 23 = .ok (.ifCond .ne 7, 3) := by decide +kernel
theorem dX0_wrongYear_26 : decode mi_X0_wrongYear.2.1 26 = .ok (.iconst 5, 1) := by decide +kernel
theorem dX0_wrongYear_27 : decode mi_X0_wrongYear.2.1 27 = .ok (.goto 4, 3) := by decide +kernel
theorem dX0_wrongYear_30 : decode mi_X0_wrongYear.2.1 30 = .ok (.iconst 0, 1) := by decide +kernel
theorem dX0_wrongYear_31 : decode mi_X0_wrongYear.2.1 31 = .ok (.ireturn, 1) := by decide +kernel
theorem dX11_bushels_0 : decode mi_X11_bushels.2.1 0 = .ok (.aload_n 0, 1) := by decide +kernel
theorem dX11_bushels_1 : decode mi_X11_bushels.2.1 1 = .ok (.getfield 16, 3) := by decide +kernel
theorem dX11_bushels_4 : decode mi_X11_bushels.2.1 4 = .ok (.ireturn, 1) := by decide +kernel
theorem dX12_year_0 : decode mi_X12_year.2.1 0 = .ok (.aload_n 0, 1) := by decide +kernel
theorem dX12_year_1 : decode mi_X12_year.2.1 1 = .ok (.getfield 24, 3) := by decide +kernel
theorem dX12_year_4 : decode mi_X12_year.2.1 4 = .ok (.bipush 52, 2) := by decide +kernel
theorem dX12_year_6 : decode mi_X12_year.2.1 6 = .ok (.idiv, 1) := by decide +kernel
theorem dX12_year_7 : decode mi_X12_year.2.1 7 = .ok (.ireturn, 1) := by decide +kernel
theorem dX12_bushels_0 : decode mi_X12_bushels.2.1 0 = .ok (.aload_n 0, 1) := by decide +kernel
theorem dX12_bushels_1 : decode mi_X12_bushels.2.1 1 = .ok (.invokespecial 20, 3) := by decide +kernel
theorem dX12_bushels_4 : decode mi_X12_bushels.2.1 4 = .ok (.aload_n 0, 1) := by decide +kernel
theorem dX12_bushels_5 : decode mi_X12_bushels.2.1 5 = .ok (.invokespecial 20, 3) := by decide +kernel
theorem dX12_bushels_8 : decode mi_X12_bushels.2.1 8 = .ok (.aload_n 0, 1) := by decide +kernel
theorem dX12_bushels_9 : decode mi_X12_bushels.2.1 9 = .ok (.getfield 17, 3) := by decide +kernel
theorem dX12_bushels_12 : decode mi_X12_bushels.2.1 12 = .ok (.imul, 1) := by decide +kernel
theorem dX12_bushels_13 : decode mi_X12_bushels.2.1 13 = .ok (.sipush 1000, 3) := by decide +kernel
theorem dX12_bushels_16 : decode mi_X12_bushels.2.1 16 = .ok (.idiv, 1) := by decide +kernel
theorem dX12_bushels_17 : decode mi_X12_bushels.2.1 17 = .ok (.isub, 1) := by decide +kernel
theorem dX12_bushels_18 : decode mi_X12_bushels.2.1 18 = .ok (.ireturn, 1) := by decide +kernel
theorem dX3_comes_0 : decode mi_X3_comes.2.1 0 = .ok (.aload_n 0, 1) := by decide +kernel
theorem dX3_comes_1 : decode mi_X3_comes.2.1 1 = .ok (.getfield 9, 3) := by decide +kernel
theorem dX3_comes_4 : decode mi_X3_comes.2.1 4 = .ok (.iload_n 1, 1) := by decide +kernel
theorem dX3_comes_5 : decode mi_X3_comes.2.1 5 = .ok (.dup2, 1) := by decide +kernel
theorem dX3_comes_6 : decode mi_X3_comes.2.1 6 = .ok (.iaload, 1) := by decide +kernel
theorem dX3_comes_7 : decode mi_X3_comes.2.1 7 = .ok (.iload_n 2, 1) := by decide +kernel
theorem dX3_comes_8 : decode mi_X3_comes.2.1 8 = .ok (.iadd, 1) := by decide +kernel
theorem dX3_comes_9 : decode mi_X3_comes.2.1 9 = .ok (.iastore, 1) := by decide +kernel
theorem dX3_comes_10 : decode mi_X3_comes.2.1 10 = .ok (.aload_n 0, 1) := by decide +kernel
theorem dX3_comes_11 : decode mi_X3_comes.2.1 11 = .ok (.dup, 1) := by decide +kernel
theorem dX3_comes_12 : decode mi_X3_comes.2.1 12 = .ok (.getfield 15, 3) := by decide +kernel
theorem dX3_comes_15 : decode mi_X3_comes.2.1 15 = .ok (.iload_n 2, 1) := by decide +kernel
theorem dX3_comes_16 : decode mi_X3_comes.2.1 16 = .ok (.iadd, 1) := by decide +kernel
theorem dX3_comes_17 : decode mi_X3_comes.2.1 17 = .ok (.putfield 15, 3) := by decide +kernel
theorem dX3_comes_20 : decode mi_X3_comes.2.1 20 = .ok (.return_, 1) := by decide +kernel
theorem dX4_of_0 : decode mi_X4_of.2.1 0 = .ok (.aload_n 0, 1) := by decide +kernel
theorem dX4_of_1 : decode mi_X4_of.2.1 1 = .ok (.iload_n 1, 1) := by decide +kernel
theorem dX4_of_2 : decode mi_X4_of.2.1 2 = .ok (.putfield 7, 3) := by decide +kernel
theorem dX4_of_5 : decode mi_X4_of.2.1 5 = .ok (.aload_n 0, 1) := by decide +kernel
theorem dX4_of_6 : decode mi_X4_of.2.1 6 = .ok (.iload_n 2, 1) := by decide +kernel
theorem dX4_of_7 : decode mi_X4_of.2.1 7 = .ok (.putfield 13, 3) := by decide +kernel
theorem dX4_of_10 : decode mi_X4_of.2.1 10 = .ok (.aload_n 0, 1) := by decide +kernel
theorem dX4_of_11 : decode mi_X4_of.2.1 11 = .ok (.areturn, 1) := by decide +kernel
theorem dX5_at_0 : decode mi_X5_at.2.1 0 = .ok (.iload_n 1, 1) := by decide +kernel
theorem dX5_at_1 : decode mi_X5_at.2.1 1 = .ok (.aload_n 0, 1) := by decide +kernel
theorem dX5_at_2 : decode mi_X5_at.2.1 2 = .ok (.getfield 19, 3) := by decide +kernel
theorem dX5_at_5 : decode mi_X5_at.2.1 5 = .ok (.if_icmp .ge 16, 3) := by decide +kernel
theorem dX5_at_8 : decode mi_X5_at.2.1 8 = .ok (.aload_n 0, 1) := by decide +kernel
theorem dX5_at_9 : decode mi_X5_at.2.1 9 = .ok (.getfield 9, 3) := by decide +kernel
theorem dX5_at_12 : decode mi_X5_at.2.1 12 = .ok (.iload_n 1, 1) := by decide +kernel
theorem dX5_at_13 : decode mi_X5_at.2.1 13 = .ok (.baload, 1) := by decide +kernel
theorem dX5_at_14 : decode mi_X5_at.2.1 14 = .ok (.sipush 255, 3) := by decide +kernel
theorem dX5_at_17 : decode mi_X5_at.2.1 17 = .ok (.iand, 1) := by decide +kernel
theorem dX5_at_18 : decode mi_X5_at.2.1 18 = .ok (.goto 4, 3) := by decide +kernel
theorem dX5_at_21 : decode mi_X5_at.2.1 21 = .ok (.iconst (-1), 1) := by decide +kernel
theorem dX5_at_22 : decode mi_X5_at.2.1 22 = .ok (.ireturn, 1) := by decide +kernel
theorem dX5_isSmall_0 : decode mi_X5_isSmall.2.1 0 = .ok (.iload_n 0, 1) := by decide +kernel
theorem dX5_isSmall_1 : decode mi_X5_isSmall.2.1 1 = .ok (.bipush 97, 2) := by decide +kernel
theorem dX5_isSmall_3 : decode mi_X5_isSmall.2.1 3 = .ok (.if_icmp .lt 13, 3) := by decide +kernel
theorem dX5_isSmall_6 : decode mi_X5_isSmall.2.1 6 = .ok (.iload_n 0, 1) := by decide +kernel
theorem dX5_isSmall_7 : decode mi_X5_isSmall.2.1 7 = .ok (.bipush 122, 2) := by decide +kernel
theorem dX5_isSmall_9 : decode mi_X5_isSmall.2.1 9 = .ok (.if_icmp .gt 7, 3) := by decide +kernel
theorem dX5_isSmall_12 : decode mi_X5_isSmall.2.1 12 = .ok (.iconst 1, 1) := by decide +kernel
theorem dX5_isSmall_13 : decode mi_X5_isSmall.2.1 13 = .ok (.goto 4, 3) := by decide +kernel
theorem dX5_isSmall_16 : decode mi_X5_isSmall.2.1 16 = .ok (.iconst 0, 1) := by decide +kernel
theorem dX5_isSmall_17 : decode mi_X5_isSmall.2.1 17 = .ok (.ireturn, 1) := by decide +kernel
theorem dX5_isDigit_0 : decode mi_X5_isDigit.2.1 0 = .ok (.iload_n 0, 1) := by decide +kernel
theorem dX5_isDigit_1 : decode mi_X5_isDigit.2.1 1 = .ok (.bipush 48, 2) := by decide +kernel
theorem dX5_isDigit_3 : decode mi_X5_isDigit.2.1 3 = .ok (.if_icmp .lt 13, 3) := by decide +kernel
theorem dX5_isDigit_6 : decode mi_X5_isDigit.2.1 6 = .ok (.iload_n 0, 1) := by decide +kernel
theorem dX5_isDigit_7 : decode mi_X5_isDigit.2.1 7 = .ok (.bipush 57, 2) := by decide +kernel
theorem dX5_isDigit_9 : decode mi_X5_isDigit.2.1 9 = .ok (.if_icmp .gt 7, 3) := by decide +kernel
theorem dX5_isDigit_12 : decode mi_X5_isDigit.2.1 12 = .ok (.iconst 1, 1) := by decide +kernel
theorem dX5_isDigit_13 : decode mi_X5_isDigit.2.1 13 = .ok (.goto 4, 3) := by decide +kernel
theorem dX5_isDigit_16 : decode mi_X5_isDigit.2.1 16 = .ok (.iconst 0, 1) := by decide +kernel
theorem dX5_isDigit_17 : decode mi_X5_isDigit.2.1 17 = .ok (.ireturn, 1) := by decide +kernel
theorem dX5_need_0 : decode mi_X5_need.2.1 0 = .ok (.iload_n 1, 1) := by decide +kernel
theorem dX5_need_1 : decode mi_X5_need.2.1 1 = .ok (.ifCond .ne 9, 3) := by decide +kernel
theorem dX5_need_4 : decode mi_X5_need.2.1 4 = .ok (.aload_n 0, 1) := by decide +kernel
theorem dX5_need_5 : decode mi_X5_need.2.1 5 = .ok (.iconst 2, 1) := by decide +kernel
theorem dX5_need_6 : decode mi_X5_need.2.1 6 = .ok (.invokevirtual 68, 3) := by decide +kernel
theorem dX5_need_9 : decode mi_X5_need.2.1 9 = .ok (.athrow, 1) := by decide +kernel
theorem dX5_need_10 : decode mi_X5_need.2.1 10 = .ok (.return_, 1) := by decide +kernel
theorem dX5_fail_0 : decode mi_X5_fail.2.1 0 = .ok (.aload_n 0, 1) := by decide +kernel
theorem dX5_fail_1 : decode mi_X5_fail.2.1 1 = .ok (.getfield 15, 3) := by decide +kernel
theorem dX5_fail_4 : decode mi_X5_fail.2.1 4 = .ok (.aload_n 0, 1) := by decide +kernel
theorem dX5_fail_5 : decode mi_X5_fail.2.1 5 = .ok (.getfield 37, 3) := by decide +kernel
theorem dX5_fail_8 : decode mi_X5_fail.2.1 8 = .ok (.iconst 1, 1) := by decide +kernel
theorem dX5_fail_9 : decode mi_X5_fail.2.1 9 = .ok (.if_icmp .ne 7, 3) := by decide +kernel
theorem dX5_fail_12 : decode mi_X5_fail.2.1 12 = .ok (.iconst 1, 1) := by decide +kernel
theorem dX5_fail_13 : decode mi_X5_fail.2.1 13 = .ok (.goto 4, 3) := by decide +kernel
theorem dX5_fail_16 : decode mi_X5_fail.2.1 16 = .ok (.iload_n 1, 1) := by decide +kernel
theorem dX5_fail_17 : decode mi_X5_fail.2.1 17 = .ok (.aload_n 0, 1) := by decide +kernel
theorem dX5_fail_18 : decode mi_X5_fail.2.1 18 = .ok (.getfield 30, 3) := by decide +kernel
theorem dX5_fail_21 : decode mi_X5_fail.2.1 21 = .ok (.invokevirtual 62, 3) := by decide +kernel
theorem dX5_fail_24 : decode mi_X5_fail.2.1 24 = .ok (.areturn, 1) := by decide +kernel
theorem dX5_is_0 : decode mi_X5_is.2.1 0 = .ok (.aload_n 0, 1) := by decide +kernel
theorem dX5_is_1 : decode mi_X5_is.2.1 1 = .ok (.getfield 37, 3) := by decide +kernel
theorem dX5_is_4 : decode mi_X5_is.2.1 4 = .ok (.iconst 4, 1) := by decide +kernel
theorem dX5_is_5 : decode mi_X5_is.2.1 5 = .ok (.if_icmp .ne 17, 3) := by decide +kernel
theorem dX5_is_8 : decode mi_X5_is.2.1 8 = .ok (.aload_n 0, 1) := by decide +kernel
theorem dX5_is_9 : decode mi_X5_is.2.1 9 = .ok (.getfield 33, 3) := by decide +kernel
theorem dX5_is_12 : decode mi_X5_is.2.1 12 = .ok (.iload_n 1, 1) := by decide +kernel
theorem dX5_is_13 : decode mi_X5_is.2.1 13 = .ok (.i2l, 1) := by decide +kernel
theorem dX5_is_14 : decode mi_X5_is.2.1 14 = .ok (.lcmp, 1) := by decide +kernel
theorem dX5_is_15 : decode mi_X5_is.2.1 15 = .ok (.ifCond .ne 7, 3) := by decide +kernel
theorem dX5_is_18 : decode mi_X5_is.2.1 18 = .ok (.iconst 1, 1) := by decide +kernel
theorem dX5_is_19 : decode mi_X5_is.2.1 19 = .ok (.goto 4, 3) := by decide +kernel
theorem dX5_is_22 : decode mi_X5_is.2.1 22 = .ok (.iconst 0, 1) := by decide +kernel
theorem dX5_is_23 : decode mi_X5_is.2.1 23 = .ok (.ireturn, 1) := by decide +kernel
theorem dX9_isSigned_0 : decode mi_X9_isSigned.2.1 0 = .ok (.aload_n 0, 1) := by decide +kernel
theorem dX9_isSigned_1 : decode mi_X9_isSigned.2.1 1 = .ok (.getfield 9, 3) := by decide +kernel
theorem dX9_isSigned_4 : decode mi_X9_isSigned.2.1 4 = .ok (.iconst (-1), 1) := by decide +kernel
theorem dX9_isSigned_5 : decode mi_X9_isSigned.2.1 5 = .ok (.if_icmp .eq 23, 3) := by decide +kernel
theorem dX9_isSigned_8 : decode mi_X9_isSigned.2.1 8 = .ok (.aload_n 0, 1) := by decide +kernel
theorem dX9_isSigned_9 : decode mi_X9_isSigned.2.1 9 = .ok (.getfield 9, 3) := by decide +kernel
theorem dX9_isSigned_12 : decode mi_X9_isSigned.2.1 12 = .ok (.iload_n 1, 1) := by decide +kernel
theorem dX9_isSigned_13 : decode mi_X9_isSigned.2.1 13 = .ok (.if_icmp .gt 15, 3) := by decide +kernel
theorem dX9_isSigned_16 : decode mi_X9_isSigned.2.1 16 = .ok (.iload_n 1, 1) := by decide +kernel
theorem dX9_isSigned_17 : decode mi_X9_isSigned.2.1 17 = .ok (.aload_n 0, 1) := by decide +kernel
theorem dX9_isSigned_18 : decode mi_X9_isSigned.2.1 18 = .ok (.getfield 15, 3) := by decide +kernel
theorem dX9_isSigned_21 : decode mi_X9_isSigned.2.1 21 = .ok (.if_icmp .gt 7, 3) := by decide +kernel
theorem dX9_isSigned_24 : decode mi_X9_isSigned.2.1 24 = .ok (.iconst 1, 1) := by decide +kernel
theorem dX9_isSigned_25 : decode mi_X9_isSigned.2.1 25 = .ok (.goto 4, 3) := by decide +kernel
theorem dX9_isSigned_28 : decode mi_X9_isSigned.2.1 28 = .ok (.iconst 0, 1) := by decide +kernel
theorem dX9_isSigned_29 : decode mi_X9_isSigned.2.1 29 = .ok (.ireturn, 1) := by decide +kernel
