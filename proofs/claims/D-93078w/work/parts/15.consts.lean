/-! constants of the bytecode, once -/
theorem kn_0 : (0 : Int32) = nI 0 := by decide
theorem kn_1 : (1 : Int32) = nI 1 := by decide
theorem kn_2 : (2 : Int32) = nI 2 := by decide
theorem kn_3 : (3 : Int32) = nI 3 := by decide
theorem kn_4 : (4 : Int32) = nI 4 := by decide
theorem kn_5 : (5 : Int32) = nI 5 := by decide
theorem kn_6 : (6 : Int32) = nI 6 := by decide
theorem kn_7 : (7 : Int32) = nI 7 := by decide
theorem kn_8 : (8 : Int32) = nI 8 := by decide
theorem kn_9 : (9 : Int32) = nI 9 := by decide
theorem kn_10 : (10 : Int32) = nI 10 := by decide
theorem kn_11 : (11 : Int32) = nI 11 := by decide
theorem kn_12 : (12 : Int32) = nI 12 := by decide
theorem kn_13 : (13 : Int32) = nI 13 := by decide
theorem kn_14 : (14 : Int32) = nI 14 := by decide
theorem kn_15 : (15 : Int32) = nI 15 := by decide
theorem kn_16 : (16 : Int32) = nI 16 := by decide
theorem kn_17 : (17 : Int32) = nI 17 := by decide
theorem kn_18 : (18 : Int32) = nI 18 := by decide
theorem kn_19 : (19 : Int32) = nI 19 := by decide
theorem kn_20 : (20 : Int32) = nI 20 := by decide
theorem kn_21 : (21 : Int32) = nI 21 := by decide
theorem kn_22 : (22 : Int32) = nI 22 := by decide
theorem kn_23 : (23 : Int32) = nI 23 := by decide
theorem kn_24 : (24 : Int32) = nI 24 := by decide
theorem kn_25 : (25 : Int32) = nI 25 := by decide
theorem kn_26 : (26 : Int32) = nI 26 := by decide
theorem kn_27 : (27 : Int32) = nI 27 := by decide
theorem kn_28 : (28 : Int32) = nI 28 := by decide
theorem kn_29 : (29 : Int32) = nI 29 := by decide
theorem kn_30 : (30 : Int32) = nI 30 := by decide
theorem kn_31 : (31 : Int32) = nI 31 := by decide
theorem kn_32 : (32 : Int32) = nI 32 := by decide
theorem kn_33 : (33 : Int32) = nI 33 := by decide
theorem kn_34 : (34 : Int32) = nI 34 := by decide
theorem kn_35 : (35 : Int32) = nI 35 := by decide
theorem kn_36 : (36 : Int32) = nI 36 := by decide
theorem kn_37 : (37 : Int32) = nI 37 := by decide
theorem kn_38 : (38 : Int32) = nI 38 := by decide
theorem kn_39 : (39 : Int32) = nI 39 := by decide
theorem kn_40 : (40 : Int32) = nI 40 := by decide
theorem kn_41 : (41 : Int32) = nI 41 := by decide
theorem kn_42 : (42 : Int32) = nI 42 := by decide
theorem kn_43 : (43 : Int32) = nI 43 := by decide
theorem kn_44 : (44 : Int32) = nI 44 := by decide
theorem kn_45 : (45 : Int32) = nI 45 := by decide
theorem kn_46 : (46 : Int32) = nI 46 := by decide
theorem kn_47 : (47 : Int32) = nI 47 := by decide
theorem kn_48 : (48 : Int32) = nI 48 := by decide
theorem kn_49 : (49 : Int32) = nI 49 := by decide
theorem kn_50 : (50 : Int32) = nI 50 := by decide
theorem kn_51 : (51 : Int32) = nI 51 := by decide
theorem kn_52 : (52 : Int32) = nI 52 := by decide
theorem kn_53 : (53 : Int32) = nI 53 := by decide
theorem kn_54 : (54 : Int32) = nI 54 := by decide
theorem kn_55 : (55 : Int32) = nI 55 := by decide
theorem kn_56 : (56 : Int32) = nI 56 := by decide
theorem kn_57 : (57 : Int32) = nI 57 := by decide
theorem kn_58 : (58 : Int32) = nI 58 := by decide
theorem kn_59 : (59 : Int32) = nI 59 := by decide
theorem kn_60 : (60 : Int32) = nI 60 := by decide
theorem kn_61 : (61 : Int32) = nI 61 := by decide
theorem kn_62 : (62 : Int32) = nI 62 := by decide
theorem kn_63 : (63 : Int32) = nI 63 := by decide
theorem kn_64 : (64 : Int32) = nI 64 := by decide
theorem kn_70 : (70 : Int32) = nI 70 := by decide
theorem kn_80 : (80 : Int32) = nI 80 := by decide
theorem kn_99 : (99 : Int32) = nI 99 := by decide
theorem kn_100 : (100 : Int32) = nI 100 := by decide
theorem kn_104 : (104 : Int32) = nI 104 := by decide
theorem kn_109 : (109 : Int32) = nI 109 := by decide
theorem kn_110 : (110 : Int32) = nI 110 := by decide
theorem kn_112 : (112 : Int32) = nI 112 := by decide
theorem kn_115 : (115 : Int32) = nI 115 := by decide
theorem kn_116 : (116 : Int32) = nI 116 := by decide
theorem kn_119 : (119 : Int32) = nI 119 := by decide
theorem kn_124 : (124 : Int32) = nI 124 := by decide
theorem kn_127 : (127 : Int32) = nI 127 := by decide
theorem kn_128 : (128 : Int32) = nI 128 := by decide
theorem kn_152 : (152 : Int32) = nI 152 := by decide
theorem kn_160 : (160 : Int32) = nI 160 := by decide
theorem kn_200 : (200 : Int32) = nI 200 := by decide
theorem kn_224 : (224 : Int32) = nI 224 := by decide
theorem kn_254 : (254 : Int32) = nI 254 := by decide
theorem kn_255 : (255 : Int32) = nI 255 := by decide
theorem kn_256 : (256 : Int32) = nI 256 := by decide
theorem kn_284 : (284 : Int32) = nI 284 := by decide
theorem kn_292 : (292 : Int32) = nI 292 := by decide
theorem kn_300 : (300 : Int32) = nI 300 := by decide
theorem kn_312 : (312 : Int32) = nI 312 := by decide
theorem kn_324 : (324 : Int32) = nI 324 := by decide
theorem kn_360 : (360 : Int32) = nI 360 := by decide
theorem kn_374 : (374 : Int32) = nI 374 := by decide
theorem kn_394 : (394 : Int32) = nI 394 := by decide
theorem kn_400 : (400 : Int32) = nI 400 := by decide
theorem kn_512 : (512 : Int32) = nI 512 := by decide
theorem kn_600 : (600 : Int32) = nI 600 := by decide
theorem kn_602 : (602 : Int32) = nI 602 := by decide
theorem kn_1000 : (1000 : Int32) = nI 1000 := by decide
theorem kn_1023 : (1023 : Int32) = nI 1023 := by decide
theorem kn_1024 : (1024 : Int32) = nI 1024 := by decide
theorem kn_2048 : (2048 : Int32) = nI 2048 := by decide
theorem kn_2399 : (2399 : Int32) = nI 2399 := by decide
theorem kn_2400 : (2400 : Int32) = nI 2400 := by decide
theorem kn_4095 : (4095 : Int32) = nI 4095 := by decide
theorem kn_4096 : (4096 : Int32) = nI 4096 := by decide
theorem kn_10000 : (10000 : Int32) = nI 10000 := by decide
theorem kn_10001 : (10001 : Int32) = nI 10001 := by decide
theorem kn_12345 : (12345 : Int32) = nI 12345 := by decide
theorem kn_20000 : (20000 : Int32) = nI 20000 := by decide
theorem kn_20001 : (20001 : Int32) = nI 20001 := by decide
theorem kn_20002 : (20002 : Int32) = nI 20002 := by decide
theorem kn_20003 : (20003 : Int32) = nI 20003 := by decide
theorem kn_20004 : (20004 : Int32) = nI 20004 := by decide
theorem kn_20005 : (20005 : Int32) = nI 20005 := by decide
theorem kn_20006 : (20006 : Int32) = nI 20006 := by decide
theorem kn_20007 : (20007 : Int32) = nI 20007 := by decide
theorem kn_20008 : (20008 : Int32) = nI 20008 := by decide
theorem kn_20009 : (20009 : Int32) = nI 20009 := by decide
theorem kn_20010 : (20010 : Int32) = nI 20010 := by decide
theorem kn_55232 : (55232 : Int32) = nI 55232 := by decide
theorem kn_56320 : (56320 : Int32) = nI 56320 := by decide
theorem kn_65536 : (65536 : Int32) = nI 65536 := by decide
theorem kn_99999 : (99999 : Int32) = nI 99999 := by decide
theorem kn_1000000 : (1000000 : Int32) = nI 1000000 := by decide
theorem kn_252645135 : (252645135 : Int32) = nI 252645135 := by decide
theorem kn_858993459 : (858993459 : Int32) = nI 858993459 := by decide
theorem kn_1103515245 : (1103515245 : Int32) = nI 1103515245 := by decide
theorem kn_1431655765 : (1431655765 : Int32) = nI 1431655765 := by decide
theorem kn_2147483639 : (2147483639 : Int32) = nI 2147483639 := by decide
theorem ki_m1 : Int32.ofInt (-1) = (-1) := by decide
theorem ki_0 : Int32.ofInt 0 = 0 := by decide
theorem ki_1 : Int32.ofInt 1 = 1 := by decide
theorem ki_2 : Int32.ofInt 2 = 2 := by decide
theorem ki_3 : Int32.ofInt 3 = 3 := by decide
theorem ki_4 : Int32.ofInt 4 = 4 := by decide
theorem ki_5 : Int32.ofInt 5 = 5 := by decide
theorem ki_6 : Int32.ofInt 6 = 6 := by decide
theorem ki_8 : Int32.ofInt 8 = 8 := by decide
theorem ki_16 : Int32.ofInt 16 = 16 := by decide
theorem kb_m50 : (Int8.ofInt (-50)).toInt32 = (-50) := by decide
theorem kb_m10 : (Int8.ofInt (-10)).toInt32 = (-10) := by decide
theorem kb_m2 : (Int8.ofInt (-2)).toInt32 = (-2) := by decide
theorem kb_6 : (Int8.ofInt 6).toInt32 = 6 := by decide
theorem kb_7 : (Int8.ofInt 7).toInt32 = 7 := by decide
theorem kb_8 : (Int8.ofInt 8).toInt32 = 8 := by decide
theorem kb_9 : (Int8.ofInt 9).toInt32 = 9 := by decide
theorem kb_10 : (Int8.ofInt 10).toInt32 = 10 := by decide
theorem kb_11 : (Int8.ofInt 11).toInt32 = 11 := by decide
theorem kb_12 : (Int8.ofInt 12).toInt32 = 12 := by decide
theorem kb_13 : (Int8.ofInt 13).toInt32 = 13 := by decide
theorem kb_16 : (Int8.ofInt 16).toInt32 = 16 := by decide
theorem kb_17 : (Int8.ofInt 17).toInt32 = 17 := by decide
theorem kb_20 : (Int8.ofInt 20).toInt32 = 20 := by decide
theorem kb_24 : (Int8.ofInt 24).toInt32 = 24 := by decide
theorem kb_28 : (Int8.ofInt 28).toInt32 = 28 := by decide
theorem kb_30 : (Int8.ofInt 30).toInt32 = 30 := by decide
theorem kb_32 : (Int8.ofInt 32).toInt32 = 32 := by decide
theorem kb_33 : (Int8.ofInt 33).toInt32 = 33 := by decide
theorem kb_36 : (Int8.ofInt 36).toInt32 = 36 := by decide
theorem kb_37 : (Int8.ofInt 37).toInt32 = 37 := by decide
theorem kb_38 : (Int8.ofInt 38).toInt32 = 38 := by decide
theorem kb_40 : (Int8.ofInt 40).toInt32 = 40 := by decide
theorem kb_41 : (Int8.ofInt 41).toInt32 = 41 := by decide
theorem kb_42 : (Int8.ofInt 42).toInt32 = 42 := by decide
theorem kb_43 : (Int8.ofInt 43).toInt32 = 43 := by decide
theorem kb_45 : (Int8.ofInt 45).toInt32 = 45 := by decide
theorem kb_47 : (Int8.ofInt 47).toInt32 = 47 := by decide
theorem kb_48 : (Int8.ofInt 48).toInt32 = 48 := by decide
theorem kb_50 : (Int8.ofInt 50).toInt32 = 50 := by decide
theorem kb_52 : (Int8.ofInt 52).toInt32 = 52 := by decide
theorem kb_57 : (Int8.ofInt 57).toInt32 = 57 := by decide
theorem kb_60 : (Int8.ofInt 60).toInt32 = 60 := by decide
theorem kb_61 : (Int8.ofInt 61).toInt32 = 61 := by decide
theorem kb_62 : (Int8.ofInt 62).toInt32 = 62 := by decide
theorem kb_63 : (Int8.ofInt 63).toInt32 = 63 := by decide
theorem kb_70 : (Int8.ofInt 70).toInt32 = 70 := by decide
theorem kb_80 : (Int8.ofInt 80).toInt32 = 80 := by decide
theorem kb_99 : (Int8.ofInt 99).toInt32 = 99 := by decide
theorem kb_100 : (Int8.ofInt 100).toInt32 = 100 := by decide
theorem kb_104 : (Int8.ofInt 104).toInt32 = 104 := by decide
theorem kb_109 : (Int8.ofInt 109).toInt32 = 109 := by decide
theorem kb_110 : (Int8.ofInt 110).toInt32 = 110 := by decide
theorem kb_112 : (Int8.ofInt 112).toInt32 = 112 := by decide
theorem kb_115 : (Int8.ofInt 115).toInt32 = 115 := by decide
theorem kb_116 : (Int8.ofInt 116).toInt32 = 116 := by decide
theorem kb_119 : (Int8.ofInt 119).toInt32 = 119 := by decide
theorem kb_124 : (Int8.ofInt 124).toInt32 = 124 := by decide
theorem kb_127 : (Int8.ofInt 127).toInt32 = 127 := by decide
theorem ks_128 : (Int16.ofInt 128).toInt32 = 128 := by decide
theorem ks_152 : (Int16.ofInt 152).toInt32 = 152 := by decide
theorem ks_160 : (Int16.ofInt 160).toInt32 = 160 := by decide
theorem ks_200 : (Int16.ofInt 200).toInt32 = 200 := by decide
theorem ks_224 : (Int16.ofInt 224).toInt32 = 224 := by decide
theorem ks_254 : (Int16.ofInt 254).toInt32 = 254 := by decide
theorem ks_255 : (Int16.ofInt 255).toInt32 = 255 := by decide
theorem ks_256 : (Int16.ofInt 256).toInt32 = 256 := by decide
theorem ks_284 : (Int16.ofInt 284).toInt32 = 284 := by decide
theorem ks_292 : (Int16.ofInt 292).toInt32 = 292 := by decide
theorem ks_300 : (Int16.ofInt 300).toInt32 = 300 := by decide
theorem ks_312 : (Int16.ofInt 312).toInt32 = 312 := by decide
theorem ks_324 : (Int16.ofInt 324).toInt32 = 324 := by decide
theorem ks_360 : (Int16.ofInt 360).toInt32 = 360 := by decide
theorem ks_374 : (Int16.ofInt 374).toInt32 = 374 := by decide
theorem ks_394 : (Int16.ofInt 394).toInt32 = 394 := by decide
theorem ks_400 : (Int16.ofInt 400).toInt32 = 400 := by decide
theorem ks_600 : (Int16.ofInt 600).toInt32 = 600 := by decide
theorem ks_602 : (Int16.ofInt 602).toInt32 = 602 := by decide
theorem ks_1000 : (Int16.ofInt 1000).toInt32 = 1000 := by decide
theorem ks_1023 : (Int16.ofInt 1023).toInt32 = 1023 := by decide
theorem ks_1024 : (Int16.ofInt 1024).toInt32 = 1024 := by decide
theorem ks_2399 : (Int16.ofInt 2399).toInt32 = 2399 := by decide
theorem ks_2400 : (Int16.ofInt 2400).toInt32 = 2400 := by decide
theorem ks_4095 : (Int16.ofInt 4095).toInt32 = 4095 := by decide
theorem ks_10000 : (Int16.ofInt 10000).toInt32 = 10000 := by decide
theorem ks_10001 : (Int16.ofInt 10001).toInt32 = 10001 := by decide
theorem ks_12345 : (Int16.ofInt 12345).toInt32 = 12345 := by decide
theorem ks_20000 : (Int16.ofInt 20000).toInt32 = 20000 := by decide
theorem ks_20001 : (Int16.ofInt 20001).toInt32 = 20001 := by decide
theorem ks_20002 : (Int16.ofInt 20002).toInt32 = 20002 := by decide
theorem ks_20003 : (Int16.ofInt 20003).toInt32 = 20003 := by decide
theorem ks_20004 : (Int16.ofInt 20004).toInt32 = 20004 := by decide
theorem ks_20005 : (Int16.ofInt 20005).toInt32 = 20005 := by decide
theorem ks_20006 : (Int16.ofInt 20006).toInt32 = 20006 := by decide
theorem ks_20007 : (Int16.ofInt 20007).toInt32 = 20007 := by decide
theorem ks_20008 : (Int16.ofInt 20008).toInt32 = 20008 := by decide
theorem ks_20009 : (Int16.ofInt 20009).toInt32 = 20009 := by decide
theorem ks_20010 : (Int16.ofInt 20010).toInt32 = 20010 := by decide
