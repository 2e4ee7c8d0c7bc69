/-! ===== constants: GENERATED ===== -/
theorem cb_10 : (Int8.ofInt (10)).toInt32 = (10 : Int32) := by decide +kernel
theorem cb_104 : (Int8.ofInt (104)).toInt32 = (104 : Int32) := by decide +kernel
theorem cb_105 : (Int8.ofInt (105)).toInt32 = (105 : Int32) := by decide +kernel
theorem cb_108 : (Int8.ofInt (108)).toInt32 = (108 : Int32) := by decide +kernel
theorem cb_11 : (Int8.ofInt (11)).toInt32 = (11 : Int32) := by decide +kernel
theorem cb_110 : (Int8.ofInt (110)).toInt32 = (110 : Int32) := by decide +kernel
theorem cb_12 : (Int8.ofInt (12)).toInt32 = (12 : Int32) := by decide +kernel
theorem cb_120 : (Int8.ofInt (120)).toInt32 = (120 : Int32) := by decide +kernel
theorem cb_121 : (Int8.ofInt (121)).toInt32 = (121 : Int32) := by decide +kernel
theorem cb_122 : (Int8.ofInt (122)).toInt32 = (122 : Int32) := by decide +kernel
theorem cb_123 : (Int8.ofInt (123)).toInt32 = (123 : Int32) := by decide +kernel
theorem cb_124 : (Int8.ofInt (124)).toInt32 = (124 : Int32) := by decide +kernel
theorem cb_125 : (Int8.ofInt (125)).toInt32 = (125 : Int32) := by decide +kernel
theorem cb_126 : (Int8.ofInt (126)).toInt32 = (126 : Int32) := by decide +kernel
theorem cb_127 : (Int8.ofInt (127)).toInt32 = (127 : Int32) := by decide +kernel
theorem cb_13 : (Int8.ofInt (13)).toInt32 = (13 : Int32) := by decide +kernel
theorem cb_14 : (Int8.ofInt (14)).toInt32 = (14 : Int32) := by decide +kernel
theorem cb_15 : (Int8.ofInt (15)).toInt32 = (15 : Int32) := by decide +kernel
theorem cb_16 : (Int8.ofInt (16)).toInt32 = (16 : Int32) := by decide +kernel
theorem cb_17 : (Int8.ofInt (17)).toInt32 = (17 : Int32) := by decide +kernel
theorem cb_18 : (Int8.ofInt (18)).toInt32 = (18 : Int32) := by decide +kernel
theorem cb_19 : (Int8.ofInt (19)).toInt32 = (19 : Int32) := by decide +kernel
theorem cb_20 : (Int8.ofInt (20)).toInt32 = (20 : Int32) := by decide +kernel
theorem cb_23 : (Int8.ofInt (23)).toInt32 = (23 : Int32) := by decide +kernel
theorem cb_24 : (Int8.ofInt (24)).toInt32 = (24 : Int32) := by decide +kernel
theorem cb_25 : (Int8.ofInt (25)).toInt32 = (25 : Int32) := by decide +kernel
theorem cb_27 : (Int8.ofInt (27)).toInt32 = (27 : Int32) := by decide +kernel
theorem cb_28 : (Int8.ofInt (28)).toInt32 = (28 : Int32) := by decide +kernel
theorem cb_30 : (Int8.ofInt (30)).toInt32 = (30 : Int32) := by decide +kernel
theorem cb_31 : (Int8.ofInt (31)).toInt32 = (31 : Int32) := by decide +kernel
theorem cb_32 : (Int8.ofInt (32)).toInt32 = (32 : Int32) := by decide +kernel
theorem cb_33 : (Int8.ofInt (33)).toInt32 = (33 : Int32) := by decide +kernel
theorem cb_34 : (Int8.ofInt (34)).toInt32 = (34 : Int32) := by decide +kernel
theorem cb_37 : (Int8.ofInt (37)).toInt32 = (37 : Int32) := by decide +kernel
theorem cb_38 : (Int8.ofInt (38)).toInt32 = (38 : Int32) := by decide +kernel
theorem cb_40 : (Int8.ofInt (40)).toInt32 = (40 : Int32) := by decide +kernel
theorem cb_41 : (Int8.ofInt (41)).toInt32 = (41 : Int32) := by decide +kernel
theorem cb_42 : (Int8.ofInt (42)).toInt32 = (42 : Int32) := by decide +kernel
theorem cb_43 : (Int8.ofInt (43)).toInt32 = (43 : Int32) := by decide +kernel
theorem cb_44 : (Int8.ofInt (44)).toInt32 = (44 : Int32) := by decide +kernel
theorem cb_45 : (Int8.ofInt (45)).toInt32 = (45 : Int32) := by decide +kernel
theorem cb_46 : (Int8.ofInt (46)).toInt32 = (46 : Int32) := by decide +kernel
theorem cb_47 : (Int8.ofInt (47)).toInt32 = (47 : Int32) := by decide +kernel
theorem cb_48 : (Int8.ofInt (48)).toInt32 = (48 : Int32) := by decide +kernel
theorem cb_52 : (Int8.ofInt (52)).toInt32 = (52 : Int32) := by decide +kernel
theorem cb_53 : (Int8.ofInt (53)).toInt32 = (53 : Int32) := by decide +kernel
theorem cb_54 : (Int8.ofInt (54)).toInt32 = (54 : Int32) := by decide +kernel
theorem cb_56 : (Int8.ofInt (56)).toInt32 = (56 : Int32) := by decide +kernel
theorem cb_57 : (Int8.ofInt (57)).toInt32 = (57 : Int32) := by decide +kernel
theorem cb_58 : (Int8.ofInt (58)).toInt32 = (58 : Int32) := by decide +kernel
theorem cb_59 : (Int8.ofInt (59)).toInt32 = (59 : Int32) := by decide +kernel
theorem cb_6 : (Int8.ofInt (6)).toInt32 = (6 : Int32) := by decide +kernel
theorem cb_60 : (Int8.ofInt (60)).toInt32 = (60 : Int32) := by decide +kernel
theorem cb_61 : (Int8.ofInt (61)).toInt32 = (61 : Int32) := by decide +kernel
theorem cb_62 : (Int8.ofInt (62)).toInt32 = (62 : Int32) := by decide +kernel
theorem cb_63 : (Int8.ofInt (63)).toInt32 = (63 : Int32) := by decide +kernel
theorem cb_64 : (Int8.ofInt (64)).toInt32 = (64 : Int32) := by decide +kernel
theorem cb_65 : (Int8.ofInt (65)).toInt32 = (65 : Int32) := by decide +kernel
theorem cb_7 : (Int8.ofInt (7)).toInt32 = (7 : Int32) := by decide +kernel
theorem cb_70 : (Int8.ofInt (70)).toInt32 = (70 : Int32) := by decide +kernel
theorem cb_71 : (Int8.ofInt (71)).toInt32 = (71 : Int32) := by decide +kernel
theorem cb_76 : (Int8.ofInt (76)).toInt32 = (76 : Int32) := by decide +kernel
theorem cb_8 : (Int8.ofInt (8)).toInt32 = (8 : Int32) := by decide +kernel
theorem cb_82 : (Int8.ofInt (82)).toInt32 = (82 : Int32) := by decide +kernel
theorem cb_9 : (Int8.ofInt (9)).toInt32 = (9 : Int32) := by decide +kernel
theorem cb_90 : (Int8.ofInt (90)).toInt32 = (90 : Int32) := by decide +kernel
theorem cb_94 : (Int8.ofInt (94)).toInt32 = (94 : Int32) := by decide +kernel
theorem cb_97 : (Int8.ofInt (97)).toInt32 = (97 : Int32) := by decide +kernel
theorem cb_m12 : (Int8.ofInt (-12)).toInt32 = (-12 : Int32) := by decide +kernel
theorem cb_m128 : (Int8.ofInt (-128)).toInt32 = (-128 : Int32) := by decide +kernel
theorem cb_m13 : (Int8.ofInt (-13)).toInt32 = (-13 : Int32) := by decide +kernel
theorem cb_m14 : (Int8.ofInt (-14)).toInt32 = (-14 : Int32) := by decide +kernel
theorem cb_m15 : (Int8.ofInt (-15)).toInt32 = (-15 : Int32) := by decide +kernel
theorem cb_m16 : (Int8.ofInt (-16)).toInt32 = (-16 : Int32) := by decide +kernel
theorem cb_m2 : (Int8.ofInt (-2)).toInt32 = (-2 : Int32) := by decide +kernel
theorem cb_m20 : (Int8.ofInt (-20)).toInt32 = (-20 : Int32) := by decide +kernel
theorem cb_m28 : (Int8.ofInt (-28)).toInt32 = (-28 : Int32) := by decide +kernel
theorem cb_m3 : (Int8.ofInt (-3)).toInt32 = (-3 : Int32) := by decide +kernel
theorem cb_m5 : (Int8.ofInt (-5)).toInt32 = (-5 : Int32) := by decide +kernel
theorem cb_m52 : (Int8.ofInt (-52)).toInt32 = (-52 : Int32) := by decide +kernel
theorem cb_m6 : (Int8.ofInt (-6)).toInt32 = (-6 : Int32) := by decide +kernel
theorem cd_0 : (if (0 : Fin 2) = 0 then FP.dconst0 else FP.dconst1) = (0 : UInt64) := by decide +kernel
theorem cd_1 : (if (1 : Fin 2) = 0 then FP.dconst0 else FP.dconst1) = (4607182418800017408 : UInt64) := by decide +kernel
theorem ci_0 : Int32.ofInt (0) = (0 : Int32) := by decide +kernel
theorem ci_1 : Int32.ofInt (1) = (1 : Int32) := by decide +kernel
theorem ci_2 : Int32.ofInt (2) = (2 : Int32) := by decide +kernel
theorem ci_3 : Int32.ofInt (3) = (3 : Int32) := by decide +kernel
theorem ci_4 : Int32.ofInt (4) = (4 : Int32) := by decide +kernel
theorem ci_5 : Int32.ofInt (5) = (5 : Int32) := by decide +kernel
theorem ci_6 : Int32.ofInt (6) = (6 : Int32) := by decide +kernel
theorem ci_m1 : Int32.ofInt (-1) = (-1 : Int32) := by decide +kernel
theorem ci_m8 : Int32.ofInt (-8) = (-8 : Int32) := by decide +kernel
theorem cj_10 : Int64.ofNat 10 = (10 : Int64) := by decide +kernel
theorem cj_100000 : Int64.ofNat 100000 = (100000 : Int64) := by decide +kernel
theorem cj_1000000 : Int64.ofNat 1000000 = (1000000 : Int64) := by decide +kernel
theorem cj_100001 : Int64.ofNat 100001 = (100001 : Int64) := by decide +kernel
theorem cj_1065353216 : Int64.ofNat 1065353216 = (1065353216 : Int64) := by decide +kernel
theorem cj_11400714819323198485 : Int64.ofNat 11400714819323198485 = (-7046029254386353131 : Int64) := by decide +kernel
theorem cj_127 : Int64.ofNat 127 = (127 : Int64) := by decide +kernel
theorem cj_134217727 : Int64.ofNat 134217727 = (134217727 : Int64) := by decide +kernel
theorem cj_18446744071562067968 : Int64.ofNat 18446744071562067968 = (-2147483648 : Int64) := by decide +kernel
theorem cj_18446744073709518848 : Int64.ofNat 18446744073709518848 = (-32768 : Int64) := by decide +kernel
theorem cj_18446744073709551488 : Int64.ofNat 18446744073709551488 = (-128 : Int64) := by decide +kernel
theorem cj_18446744073709551615 : Int64.ofNat 18446744073709551615 = (-1 : Int64) := by decide +kernel
theorem cj_2 : Int64.ofNat 2 = (2 : Int64) := by decide +kernel
theorem cj_2047 : Int64.ofNat 2047 = (2047 : Int64) := by decide +kernel
theorem cj_2139095040 : Int64.ofNat 2139095040 = (2139095040 : Int64) := by decide +kernel
theorem cj_2147483647 : Int64.ofNat 2147483647 = (2147483647 : Int64) := by decide +kernel
theorem cj_2147483648 : Int64.ofNat 2147483648 = (2147483648 : Int64) := by decide +kernel
theorem cj_2305843009213693952 : Int64.ofNat 2305843009213693952 = (2305843009213693952 : Int64) := by decide +kernel
theorem cj_268435455 : Int64.ofNat 268435455 = (268435455 : Int64) := by decide +kernel
theorem cj_268435456 : Int64.ofNat 268435456 = (268435456 : Int64) := by decide +kernel
theorem cj_3 : Int64.ofNat 3 = (3 : Int64) := by decide +kernel
theorem cj_30000 : Int64.ofNat 30000 = (30000 : Int64) := by decide +kernel
theorem cj_32767 : Int64.ofNat 32767 = (32767 : Int64) := by decide +kernel
theorem cj_4294967295 : Int64.ofNat 4294967295 = (4294967295 : Int64) := by decide +kernel
theorem cj_4503599627370495 : Int64.ofNat 4503599627370495 = (4503599627370495 : Int64) := by decide +kernel
theorem cj_4503599627370496 : Int64.ofNat 4503599627370496 = (4503599627370496 : Int64) := by decide +kernel
theorem cj_4607182418800017408 : Int64.ofNat 4607182418800017408 = (4607182418800017408 : Int64) := by decide +kernel
theorem cj_4611686018427387904 : Int64.ofNat 4611686018427387904 = (4611686018427387904 : Int64) := by decide +kernel
theorem cj_48 : Int64.ofNat 48 = (48 : Int64) := by decide +kernel
theorem cj_524287 : Int64.ofNat 524287 = (524287 : Int64) := by decide +kernel
theorem cj_60000 : Int64.ofNat 60000 = (60000 : Int64) := by decide +kernel
theorem cj_65535 : Int64.ofNat 65535 = (65535 : Int64) := by decide +kernel
theorem cj_65536 : Int64.ofNat 65536 = (65536 : Int64) := by decide +kernel
theorem cj_71 : Int64.ofNat 71 = (71 : Int64) := by decide +kernel
theorem cj_8 : Int64.ofNat 8 = (8 : Int64) := by decide +kernel
theorem cj_82 : Int64.ofNat 82 = (82 : Int64) := by decide +kernel
theorem cj_8388608 : Int64.ofNat 8388608 = (8388608 : Int64) := by decide +kernel
theorem cj_9218868437227405312 : Int64.ofNat 9218868437227405312 = (9218868437227405312 : Int64) := by decide +kernel
theorem cj_9223372036854775807 : Int64.ofNat 9223372036854775807 = (9223372036854775807 : Int64) := by decide +kernel
theorem cj_9223372036854775808 : Int64.ofNat 9223372036854775808 = (-9223372036854775808 : Int64) := by decide +kernel
theorem cl_0 : Int64.ofNat ((0 : Fin 2) : Nat) = (0 : Int64) := by decide +kernel
theorem cl_1 : Int64.ofNat ((1 : Fin 2) : Nat) = (1 : Int64) := by decide +kernel
theorem cn_0 : Int32.ofNat 0 = (0 : Int32) := by decide +kernel
theorem cn_1 : Int32.ofNat 1 = (1 : Int32) := by decide +kernel
theorem cn_100000 : Int32.ofNat 100000 = (100000 : Int32) := by decide +kernel
theorem cn_1000000007 : Int32.ofNat 1000000007 = (1000000007 : Int32) := by decide +kernel
theorem cn_1073741823 : Int32.ofNat 1073741823 = (1073741823 : Int32) := by decide +kernel
theorem cn_127 : Int32.ofNat 127 = (127 : Int32) := by decide +kernel
theorem cn_2139095040 : Int32.ofNat 2139095040 = (2139095040 : Int32) := by decide +kernel
theorem cn_2147483639 : Int32.ofNat 2147483639 = (2147483639 : Int32) := by decide +kernel
theorem cn_2147483647 : Int32.ofNat 2147483647 = (2147483647 : Int32) := by decide +kernel
theorem cn_2147483648 : Int32.ofNat 2147483648 = (-2147483648 : Int32) := by decide +kernel
theorem cn_268435455 : Int32.ofNat 268435455 = (268435455 : Int32) := by decide +kernel
theorem cn_32768 : Int32.ofNat 32768 = (32768 : Int32) := by decide +kernel
theorem cn_3988292384 : Int32.ofNat 3988292384 = (-306674912 : Int32) := by decide +kernel
theorem cn_400000 : Int32.ofNat 400000 = (400000 : Int32) := by decide +kernel
theorem cn_55232 : Int32.ofNat 55232 = (55232 : Int32) := by decide +kernel
theorem cn_56320 : Int32.ofNat 56320 = (56320 : Int32) := by decide +kernel
theorem cn_60000 : Int32.ofNat 60000 = (60000 : Int32) := by decide +kernel
theorem cn_65535 : Int32.ofNat 65535 = (65535 : Int32) := by decide +kernel
theorem cn_65536 : Int32.ofNat 65536 = (65536 : Int32) := by decide +kernel
theorem cn_8 : Int32.ofNat 8 = (8 : Int32) := by decide +kernel
theorem cn_8388607 : Int32.ofNat 8388607 = (8388607 : Int32) := by decide +kernel
theorem cs_10000 : (Int16.ofInt (10000)).toInt32 = (10000 : Int32) := by decide +kernel
theorem cs_1023 : (Int16.ofInt (1023)).toInt32 = (1023 : Int32) := by decide +kernel
theorem cs_1024 : (Int16.ofInt (1024)).toInt32 = (1024 : Int32) := by decide +kernel
theorem cs_1075 : (Int16.ofInt (1075)).toInt32 = (1075 : Int32) := by decide +kernel
theorem cs_128 : (Int16.ofInt (128)).toInt32 = (128 : Int32) := by decide +kernel
theorem cs_130 : (Int16.ofInt (130)).toInt32 = (130 : Int32) := by decide +kernel
theorem cs_150 : (Int16.ofInt (150)).toInt32 = (150 : Int32) := by decide +kernel
theorem cs_16000 : (Int16.ofInt (16000)).toInt32 = (16000 : Int32) := by decide +kernel
theorem cs_16384 : (Int16.ofInt (16384)).toInt32 = (16384 : Int32) := by decide +kernel
theorem cs_252 : (Int16.ofInt (252)).toInt32 = (252 : Int32) := by decide +kernel
theorem cs_255 : (Int16.ofInt (255)).toInt32 = (255 : Int32) := by decide +kernel
theorem cs_30000 : (Int16.ofInt (30000)).toInt32 = (30000 : Int32) := by decide +kernel
theorem cs_400 : (Int16.ofInt (400)).toInt32 = (400 : Int32) := by decide +kernel
theorem cs_4000 : (Int16.ofInt (4000)).toInt32 = (4000 : Int32) := by decide +kernel
theorem cs_401 : (Int16.ofInt (401)).toInt32 = (401 : Int32) := by decide +kernel
theorem cs_4096 : (Int16.ofInt (4096)).toInt32 = (4096 : Int32) := by decide +kernel
theorem cs_499 : (Int16.ofInt (499)).toInt32 = (499 : Int32) := by decide +kernel
theorem cs_500 : (Int16.ofInt (500)).toInt32 = (500 : Int32) := by decide +kernel
theorem cs_7800 : (Int16.ofInt (7800)).toInt32 = (7800 : Int32) := by decide +kernel
theorem cs_8000 : (Int16.ofInt (8000)).toInt32 = (8000 : Int32) := by decide +kernel
theorem cs_m1074 : (Int16.ofInt (-1074)).toInt32 = (-1074 : Int32) := by decide +kernel
theorem ct_0 : ((0 : Int32)).toInt = 0 := by decide +kernel
theorem ct_1 : ((1 : Int32)).toInt = 1 := by decide +kernel
theorem ct_10 : ((10 : Int32)).toInt = 10 := by decide +kernel
theorem ct_104431 : ((104431 : Int32)).toInt = 104431 := by decide +kernel
theorem ct_1084 : ((1084 : Int32)).toInt = 1084 := by decide +kernel
theorem ct_109413500 : ((109413500 : Int32)).toInt = 109413500 := by decide +kernel
theorem ct_11 : ((11 : Int32)).toInt = 11 := by decide +kernel
theorem ct_12 : ((12 : Int32)).toInt = 12 := by decide +kernel
theorem ct_1216 : ((1216 : Int32)).toInt = 1216 := by decide +kernel
theorem ct_124 : ((124 : Int32)).toInt = 124 := by decide +kernel
theorem ct_126 : ((126 : Int32)).toInt = 126 := by decide +kernel
theorem ct_13 : ((13 : Int32)).toInt = 13 := by decide +kernel
theorem ct_14 : ((14 : Int32)).toInt = 14 := by decide +kernel
theorem ct_15 : ((15 : Int32)).toInt = 15 := by decide +kernel
theorem ct_16 : ((16 : Int32)).toInt = 16 := by decide +kernel
theorem ct_17 : ((17 : Int32)).toInt = 17 := by decide +kernel
theorem ct_18 : ((18 : Int32)).toInt = 18 := by decide +kernel
theorem ct_19 : ((19 : Int32)).toInt = 19 := by decide +kernel
theorem ct_1920 : ((1920 : Int32)).toInt = 1920 := by decide +kernel
theorem ct_1921 : ((1921 : Int32)).toInt = 1921 := by decide +kernel
theorem ct_1952 : ((1952 : Int32)).toInt = 1952 := by decide +kernel
theorem ct_1983 : ((1983 : Int32)).toInt = 1983 := by decide +kernel
theorem ct_1984 : ((1984 : Int32)).toInt = 1984 := by decide +kernel
theorem ct_2 : ((2 : Int32)).toInt = 2 := by decide +kernel
theorem ct_20 : ((20 : Int32)).toInt = 20 := by decide +kernel
theorem ct_21 : ((21 : Int32)).toInt = 21 := by decide +kernel
theorem ct_22 : ((22 : Int32)).toInt = 22 := by decide +kernel
theorem ct_23 : ((23 : Int32)).toInt = 23 := by decide +kernel
theorem ct_24 : ((24 : Int32)).toInt = 24 := by decide +kernel
theorem ct_25 : ((25 : Int32)).toInt = 25 := by decide +kernel
theorem ct_26 : ((26 : Int32)).toInt = 26 := by decide +kernel
theorem ct_27 : ((27 : Int32)).toInt = 27 := by decide +kernel
theorem ct_28 : ((28 : Int32)).toInt = 28 := by decide +kernel
theorem ct_29 : ((29 : Int32)).toInt = 29 := by decide +kernel
theorem ct_3 : ((3 : Int32)).toInt = 3 := by decide +kernel
theorem ct_30 : ((30 : Int32)).toInt = 30 := by decide +kernel
theorem ct_3039496 : ((3039496 : Int32)).toInt = 3039496 := by decide +kernel
theorem ct_3052374 : ((3052374 : Int32)).toInt = 3052374 := by decide +kernel
theorem ct_31 : ((31 : Int32)).toInt = 31 := by decide +kernel
theorem ct_32 : ((32 : Int32)).toInt = 32 := by decide +kernel
theorem ct_33 : ((33 : Int32)).toInt = 33 := by decide +kernel
theorem ct_3327612 : ((3327612 : Int32)).toInt = 3327612 := by decide +kernel
theorem ct_34 : ((34 : Int32)).toInt = 34 := by decide +kernel
theorem ct_35 : ((35 : Int32)).toInt = 35 := by decide +kernel
theorem ct_36 : ((36 : Int32)).toInt = 36 := by decide +kernel
theorem ct_37 : ((37 : Int32)).toInt = 37 := by decide +kernel
theorem ct_38 : ((38 : Int32)).toInt = 38 := by decide +kernel
theorem ct_39 : ((39 : Int32)).toInt = 39 := by decide +kernel
theorem ct_3968 : ((3968 : Int32)).toInt = 3968 := by decide +kernel
theorem ct_4 : ((4 : Int32)).toInt = 4 := by decide +kernel
theorem ct_40 : ((40 : Int32)).toInt = 40 := by decide +kernel
theorem ct_41 : ((41 : Int32)).toInt = 41 := by decide +kernel
theorem ct_42 : ((42 : Int32)).toInt = 42 := by decide +kernel
theorem ct_43 : ((43 : Int32)).toInt = 43 := by decide +kernel
theorem ct_44 : ((44 : Int32)).toInt = 44 := by decide +kernel
theorem ct_45 : ((45 : Int32)).toInt = 45 := by decide +kernel
theorem ct_46 : ((46 : Int32)).toInt = 46 := by decide +kernel
theorem ct_47 : ((47 : Int32)).toInt = 47 := by decide +kernel
theorem ct_48 : ((48 : Int32)).toInt = 48 := by decide +kernel
theorem ct_49 : ((49 : Int32)).toInt = 49 := by decide +kernel
theorem ct_5 : ((5 : Int32)).toInt = 5 := by decide +kernel
theorem ct_50 : ((50 : Int32)).toInt = 50 := by decide +kernel
theorem ct_51 : ((51 : Int32)).toInt = 51 := by decide +kernel
theorem ct_52 : ((52 : Int32)).toInt = 52 := by decide +kernel
theorem ct_58 : ((58 : Int32)).toInt = 58 := by decide +kernel
theorem ct_59 : ((59 : Int32)).toInt = 59 := by decide +kernel
theorem ct_6 : ((6 : Int32)).toInt = 6 := by decide +kernel
theorem ct_60 : ((60 : Int32)).toInt = 60 := by decide +kernel
theorem ct_61 : ((61 : Int32)).toInt = 61 := by decide +kernel
theorem ct_61566 : ((61566 : Int32)).toInt = 61566 := by decide +kernel
theorem ct_62 : ((62 : Int32)).toInt = 62 := by decide +kernel
theorem ct_63 : ((63 : Int32)).toInt = 63 := by decide +kernel
theorem ct_64711720 : ((64711720 : Int32)).toInt = 64711720 := by decide +kernel
theorem ct_7 : ((7 : Int32)).toInt = 7 := by decide +kernel
theorem ct_8 : ((8 : Int32)).toInt = 8 := by decide +kernel
theorem ct_9 : ((9 : Int32)).toInt = 9 := by decide +kernel
theorem ct_94 : ((94 : Int32)).toInt = 94 := by decide +kernel
theorem ct_97526364 : ((97526364 : Int32)).toInt = 97526364 := by decide +kernel
theorem ct_m1325958191 : ((-1325958191 : Int32)).toInt = -1325958191 := by decide +kernel
theorem cu_13826050856027422720 : UInt64.ofNat 13826050856027422720 = (13826050856027422720 : UInt64) := by decide +kernel
theorem cu_14064741636278059008 : UInt64.ofNat 14064741636278059008 = (14064741636278059008 : UInt64) := by decide +kernel
theorem cu_14114281232179134464 : UInt64.ofNat 14114281232179134464 = (14114281232179134464 : UInt64) := by decide +kernel
theorem cu_18442240474082181119 : UInt64.ofNat 18442240474082181119 = (18442240474082181119 : UInt64) := by decide +kernel
theorem cu_4602678819172646912 : UInt64.ofNat 4602678819172646912 = (4602678819172646912 : UInt64) := by decide +kernel
theorem cu_4611686018427387904 : UInt64.ofNat 4611686018427387904 = (4611686018427387904 : UInt64) := by decide +kernel
theorem cu_4616189618054758400 : UInt64.ofNat 4616189618054758400 = (4616189618054758400 : UInt64) := by decide +kernel
theorem cu_4621819117588971520 : UInt64.ofNat 4621819117588971520 = (4621819117588971520 : UInt64) := by decide +kernel
theorem cu_4841369599423283200 : UInt64.ofNat 4841369599423283200 = (4841369599423283200 : UInt64) := by decide +kernel
theorem cu_4850376798678024192 : UInt64.ofNat 4850376798678024192 = (4850376798678024192 : UInt64) := by decide +kernel
theorem cu_4859383997932765184 : UInt64.ofNat 4859383997932765184 = (4859383997932765184 : UInt64) := by decide +kernel
theorem cu_4890909195324358656 : UInt64.ofNat 4890909195324358656 = (4890909195324358656 : UInt64) := by decide +kernel
theorem cu_9218868437227405311 : UInt64.ofNat 9218868437227405311 = (9218868437227405311 : UInt64) := by decide +kernel
theorem cu_9223372036854775808 : UInt64.ofNat 9223372036854775808 = (9223372036854775808 : UInt64) := by decide +kernel
