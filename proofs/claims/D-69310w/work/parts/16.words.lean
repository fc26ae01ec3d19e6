/-! the words of all methods (printed by gen/mok.py) -/
def mj_mh : List (Nat × Nat × Nat × Nat) := [(1034, 1001, 1033, 9999), (0, 0, 0, 0), (1042, 1002, 1041, 9999), (1048, 1003, 1047, 9999), (1068, 1004, 1067, 9999), (1089, 1005, 1088, 9999), (1095, 1006, 1094, 9999), (1154, 1007, 1153, 9999), (1227, 1008, 1226, 9999), (2028, 1010, 2027, 9999), (2034, 1011, 2033, 9999), (2069, 1009, 2068, 9999), (2127, 1012, 2126, 9999), (2142, 1013, 2141, 9999), (2148, 1014, 2147, 9999), (2170, 1015, 2169, 9999), (3002, 1016, 3001, 9999), (3010, 1017, 3009, 9999), (3049, 1001, 3048, 0), (3053, 1002, 3051, 3052), (3057, 1004, 3055, 3056), (3062, 1006, 3060, 3061), (3065, 1018, 3064, 9998), (3072, 1002, 3071, 1), (3077, 1007, 3075, 3076), (3081, 1007, 3079, 3080), (3086, 1005, 3084, 3085), (3091, 1004, 3089, 3090), (3094, 1019, 3093, 9998), (3098, 1019, 3097, 9998), (3104, 1005, 3102, 3103), (3108, 1003, 3106, 3107), (3112, 1006, 3110, 3111), (3118, 1003, 3117, 2), (3143, 1020, 3142, 9999), (3154, 1020, 3150, 9999), (3162, 1023, 3161, 9999), (3165, 1022, 3164, 9999), (3168, 1021, 3167, 9999), (3185, 1006, 3183, 3184), (3192, 1003, 3190, 3191), (3196, 1003, 3195, 4), (3200, 1003, 3199, 5), (3203, 1019, 3202, 9998), (3207, 1006, 3205, 3206), (3210, 1025, 3209, 9998), (3214, 1025, 3213, 9998), (3218, 1003, 3217, 6), (3223, 1002, 3222, 7), (3228, 1003, 3226, 3227), (3232, 1002, 3231, 8), (3237, 1007, 3235, 3236), (4001, 1002, 3239, 4000), (4006, 1003, 4004, 4005), (4009, 1025, 4008, 9998), (4013, 1003, 4012, 9998), (4017, 1003, 4016, 9), (4020, 1018, 4019, 9998), (4025, 1003, 4024, 10), (4029, 1003, 4028, 11), (4032, 1019, 4031, 9998), (4036, 1003, 4035, 12), (4040, 1008, 4038, 4039), (4046, 1008, 4045, 13), (4052, 1008, 4051, 14), (4056, 1008, 4055, 15), (4061, 1004, 4059, 4060), (4065, 1007, 4063, 4064), (4068, 1007, 4067, 9998), (4073, 1008, 4072, 16), (4077, 1008, 4076, 17), (4081, 1008, 4080, 18), (4085, 1008, 4083, 4084), (4090, 1008, 4088, 4089), (4094, 1009, 4092, 4093), (4100, 1008, 4098, 4099), (4104, 1004, 4102, 4103), (4110, 1009, 4109, 19), (4114, 1009, 4112, 4113), (4118, 1008, 4116, 4117), (4122, 1010, 4120, 4121), (4127, 1011, 4125, 4126), (4135, 1010, 4133, 4134), (4140, 1004, 4138, 4139), (4145, 1007, 4143, 4144), (4149, 1009, 4148, 9998), (4153, 1009, 4152, 20), (4157, 1009, 4156, 21), (4161, 1009, 4159, 4160), (4165, 1009, 4163, 4164), (4169, 1009, 4168, 22), (4173, 1009, 4172, 23), (4177, 1012, 4175, 4176), (4185, 1001, 4184, 24), (4195, 1001, 4194, 25), (4199, 1005, 4197, 4198), (5036, 1001, 5034, 5035), (5040, 1000, 5039, 9998), (5045, 1001, 5043, 5044), (5050, 1001, 5049, 9998), (5053, 1001, 5052, 9998), (5065, 1027, 5064, 9999), (5071, 1000, 5070, 9998), (5076, 1001, 5074, 5075), (5079, 1001, 5078, 9998), (5091, 1028, 5090, 9999), (5098, 1001, 5097, 26), (5102, 1007, 5100, 5101), (5105, 1000, 5104, 9998), (5109, 1001, 5107, 5108), (5113, 1000, 5112, 9998), (5117, 1001, 5115, 5116), (5121, 1000, 5120, 9998), (5125, 1001, 5123, 5124), (5129, 1000, 5128, 9998), (5133, 1001, 5131, 5132), (5136, 1000, 5135, 9998), (5140, 1001, 5138, 5139), (5143, 1000, 5142, 9998), (5147, 1001, 5145, 5146), (5150, 1000, 5149, 9998), (5154, 1001, 5152, 5153), (5157, 1000, 5156, 9998), (5161, 1001, 5159, 5160), (5165, 1012, 5163, 5164), (5169, 1000, 5168, 9998), (5173, 1001, 5171, 5172), (5178, 1029, 5177, 9998), (5184, 1029, 5183, 9998), (5189, 1029, 5188, 9998), (5193, 1000, 5192, 9998), (5197, 1001, 5195, 5196), (5200, 1001, 5199, 9998), (5206, 1007, 5204, 5205), (5211, 1000, 5210, 9998), (5215, 1001, 5213, 5214), (5218, 1000, 5217, 9998), (5223, 1001, 5221, 5222), (5226, 1001, 5225, 9998), (5232, 1013, 5230, 5231), (5235, 1019, 5234, 9998), (5239, 1014, 5237, 5238), (6003, 1014, 6002, 27), (6007, 1014, 6006, 28), (6011, 1015, 6009, 6010), (6015, 1014, 6013, 6014), (6018, 1001, 6017, 9998), (6023, 1015, 6022, 29), (6028, 1015, 6027, 30), (6032, 1015, 6031, 31), (6036, 1015, 6035, 9998), (6039, 1001, 6038, 9998), (6042, 1001, 6041, 9998), (6046, 1015, 6045, 9998), (6050, 1001, 6049, 9998), (6056, 1015, 6055, 32), (6059, 1001, 6058, 9998), (6063, 1013, 6062, 33), (6072, 1001, 6071, 34), (6076, 1001, 6075, 35), (6080, 1013, 6078, 6079), (6084, 1016, 6082, 6083), (6091, 1017, 6089, 6090), (6095, 1016, 6093, 6094), (6099, 1016, 6098, 36), (6103, 1016, 6102, 37), (6107, 1017, 6105, 6106), (6112, 1017, 6110, 6111), (6116, 1016, 6115, 9998), (6120, 1013, 6118, 6119), (6128, 1000, 6127, 9998), (6132, 1001, 6130, 6131), (6135, 1000, 6134, 9998), (6139, 1001, 6137, 6138), (6142, 1000, 6141, 9998), (6146, 1001, 6144, 6145), (6149, 1000, 6148, 9998), (6153, 1001, 6151, 6152), (6156, 1000, 6155, 9998), (6160, 1001, 6158, 6159), (6164, 1001, 6163, 38), (6167, 1001, 6166, 9998), (6170, 1000, 6169, 9998), (6174, 1001, 6172, 6173), (6178, 1006, 6176, 6177), (6182, 1000, 6181, 9998), (6186, 1001, 6184, 6185), (6189, 1000, 6188, 9998), (6193, 1001, 6191, 6192), (6197, 1006, 6195, 6196), (6203, 1026, 6202, 9999), (6213, 1026, 6212, 39), (6216, 1026, 6215, 9998), (6222, 1026, 6221, 40), (6228, 1026, 6227, 41), (6232, 1026, 6231, 42), (6235, 1026, 6234, 9998), (6238, 1026, 6237, 9998), (7002, 1026, 7001, 43), (7006, 1026, 7005, 44), (7009, 1026, 7008, 9998), (7013, 1026, 7012, 45), (7017, 1026, 7016, 46), (7021, 1026, 7020, 47), (7025, 1026, 7024, 48), (7029, 1026, 7028, 49), (7033, 1026, 7032, 50), (7037, 1026, 7036, 51), (7041, 1026, 7040, 52), (7044, 1026, 7043, 9998), (7048, 1026, 7047, 53), (7052, 1026, 7051, 54), (7056, 1026, 7055, 55), (7060, 1026, 7059, 56), (7065, 1026, 7064, 57), (7070, 1026, 7069, 58), (7074, 1026, 7073, 59), (7078, 1026, 7077, 60), (7082, 1026, 7081, 61), (7086, 1026, 7085, 62), (7090, 1026, 7089, 63), (7094, 1026, 7093, 64), (7098, 1026, 7097, 65), (8037, 1026, 8035, 8036), (8041, 1026, 8039, 8040), (8046, 1026, 8045, 9998), (8050, 1026, 8048, 8049), (8056, 1026, 8054, 8055), (8062, 1026, 8061, 66), (8066, 1026, 8065, 67), (8070, 1026, 8069, 68), (8075, 1026, 8074, 69), (8079, 1026, 8078, 70), (8083, 1026, 8082, 71), (8087, 1026, 8086, 72), (8091, 1026, 8090, 73), (8095, 1026, 8094, 74), (8099, 1026, 8098, 75), (8103, 1026, 8102, 76), (8107, 1026, 8106, 77), (8111, 1026, 8110, 78), (8115, 1026, 8114, 79), (8120, 1026, 8119, 80), (8124, 1026, 8123, 81), (8128, 1026, 8127, 82), (8132, 1026, 8131, 83), (8136, 1026, 8135, 84), (8140, 1026, 8139, 85), (8144, 1026, 8143, 86), (8148, 1026, 8147, 87), (8152, 1026, 8151, 88), (8156, 1026, 8155, 89), (8160, 1026, 8159, 90), (8164, 1026, 8163, 91), (8168, 1026, 8167, 92), (8172, 1026, 8171, 93), (8176, 1026, 8175, 94), (8180, 1026, 8179, 95), (8184, 1026, 8182, 8183), (8188, 1026, 8186, 8187), (8194, 1026, 8193, 96), (8199, 1026, 8198, 9998), (8203, 1026, 8201, 8202), (8207, 1026, 8205, 8206), (8211, 1026, 8210, 97), (8215, 1026, 8213, 8214), (8219, 1026, 8217, 8218), (8223, 1026, 8221, 8222), (8227, 1026, 8225, 8226), (8231, 1026, 8230, 98), (8235, 1026, 8233, 8234), (8239, 1026, 8237, 8238), (9003, 1026, 9001, 9002), (9007, 1026, 9005, 9006), (9011, 1026, 9009, 9010), (9015, 1026, 9013, 9014), (9019, 1026, 9018, 99), (9023, 1026, 9021, 9022), (9027, 1026, 9025, 9026), (9031, 1026, 9029, 9030), (9035, 1026, 9034, 100), (9039, 1026, 9038, 101), (9043, 1026, 9041, 9042), (9047, 1026, 9046, 102), (9051, 1026, 9050, 103), (9055, 1026, 9053, 9054), (9060, 1026, 9058, 9059)]
set_option maxRecDepth 20000 in
theorem mc_0 : mj_cw (mj_mt 0) ∈ lw_tbl := mj_tb_mem 1 (List.mem_of_getElem? (l := tables_1_1) (i := 34) rfl)
set_option maxRecDepth 20000 in
theorem mc_2 : mj_cw (mj_mt 2) ∈ lw_tbl := mj_tb_mem 1 (List.mem_of_getElem? (l := tables_1_1) (i := 42) rfl)
set_option maxRecDepth 20000 in
theorem mc_3 : mj_cw (mj_mt 3) ∈ lw_tbl := mj_tb_mem 1 (List.mem_of_getElem? (l := tables_1_1) (i := 48) rfl)
set_option maxRecDepth 20000 in
theorem mc_4 : mj_cw (mj_mt 4) ∈ lw_tbl := mj_tb_mem 1 (List.mem_of_getElem? (l := tables_1_1) (i := 68) rfl)
set_option maxRecDepth 20000 in
theorem mc_5 : mj_cw (mj_mt 5) ∈ lw_tbl := mj_tb_mem 1 (List.mem_of_getElem? (l := tables_1_1) (i := 89) rfl)
set_option maxRecDepth 20000 in
theorem mc_6 : mj_cw (mj_mt 6) ∈ lw_tbl := mj_tb_mem 1 (List.mem_of_getElem? (l := tables_1_1) (i := 95) rfl)
set_option maxRecDepth 20000 in
theorem mc_7 : mj_cw (mj_mt 7) ∈ lw_tbl := mj_tb_mem 1 (List.mem_of_getElem? (l := tables_1_1) (i := 154) rfl)
set_option maxRecDepth 20000 in
theorem mc_8 : mj_cw (mj_mt 8) ∈ lw_tbl := mj_tb_mem 1 (List.mem_of_getElem? (l := tables_1_1) (i := 227) rfl)
set_option maxRecDepth 20000 in
theorem mc_9 : mj_cw (mj_mt 9) ∈ lw_tbl := mj_tb_mem 2 (List.mem_of_getElem? (l := tables_1_2) (i := 28) rfl)
set_option maxRecDepth 20000 in
theorem mc_10 : mj_cw (mj_mt 10) ∈ lw_tbl := mj_tb_mem 2 (List.mem_of_getElem? (l := tables_1_2) (i := 34) rfl)
set_option maxRecDepth 20000 in
theorem mc_11 : mj_cw (mj_mt 11) ∈ lw_tbl := mj_tb_mem 2 (List.mem_of_getElem? (l := tables_1_2) (i := 69) rfl)
set_option maxRecDepth 20000 in
theorem mc_12 : mj_cw (mj_mt 12) ∈ lw_tbl := mj_tb_mem 2 (List.mem_of_getElem? (l := tables_1_2) (i := 127) rfl)
set_option maxRecDepth 20000 in
theorem mc_13 : mj_cw (mj_mt 13) ∈ lw_tbl := mj_tb_mem 2 (List.mem_of_getElem? (l := tables_1_2) (i := 142) rfl)
set_option maxRecDepth 20000 in
theorem mc_14 : mj_cw (mj_mt 14) ∈ lw_tbl := mj_tb_mem 2 (List.mem_of_getElem? (l := tables_1_2) (i := 148) rfl)
set_option maxRecDepth 20000 in
theorem mc_15 : mj_cw (mj_mt 15) ∈ lw_tbl := mj_tb_mem 2 (List.mem_of_getElem? (l := tables_1_2) (i := 170) rfl)
set_option maxRecDepth 20000 in
theorem mc_16 : mj_cw (mj_mt 16) ∈ lw_tbl := mj_tb_mem 3 (List.mem_of_getElem? (l := tables_1_3) (i := 2) rfl)
set_option maxRecDepth 20000 in
theorem mc_17 : mj_cw (mj_mt 17) ∈ lw_tbl := mj_tb_mem 3 (List.mem_of_getElem? (l := tables_1_3) (i := 10) rfl)
set_option maxRecDepth 20000 in
theorem mc_18 : mj_cw (mj_mt 18) ∈ lw_tbl := mj_tb_mem 3 (List.mem_of_getElem? (l := tables_1_3) (i := 49) rfl)
set_option maxRecDepth 20000 in
theorem mc_19 : mj_cw (mj_mt 19) ∈ lw_tbl := mj_tb_mem 3 (List.mem_of_getElem? (l := tables_1_3) (i := 53) rfl)
set_option maxRecDepth 20000 in
theorem mc_20 : mj_cw (mj_mt 20) ∈ lw_tbl := mj_tb_mem 3 (List.mem_of_getElem? (l := tables_1_3) (i := 57) rfl)
set_option maxRecDepth 20000 in
theorem mc_21 : mj_cw (mj_mt 21) ∈ lw_tbl := mj_tb_mem 3 (List.mem_of_getElem? (l := tables_1_3) (i := 62) rfl)
set_option maxRecDepth 20000 in
theorem mc_22 : mj_cw (mj_mt 22) ∈ lw_tbl := mj_tb_mem 3 (List.mem_of_getElem? (l := tables_1_3) (i := 65) rfl)
set_option maxRecDepth 20000 in
theorem mc_23 : mj_cw (mj_mt 23) ∈ lw_tbl := mj_tb_mem 3 (List.mem_of_getElem? (l := tables_1_3) (i := 72) rfl)
set_option maxRecDepth 20000 in
theorem mc_24 : mj_cw (mj_mt 24) ∈ lw_tbl := mj_tb_mem 3 (List.mem_of_getElem? (l := tables_1_3) (i := 77) rfl)
set_option maxRecDepth 20000 in
theorem mc_25 : mj_cw (mj_mt 25) ∈ lw_tbl := mj_tb_mem 3 (List.mem_of_getElem? (l := tables_1_3) (i := 81) rfl)
set_option maxRecDepth 20000 in
theorem mc_26 : mj_cw (mj_mt 26) ∈ lw_tbl := mj_tb_mem 3 (List.mem_of_getElem? (l := tables_1_3) (i := 86) rfl)
set_option maxRecDepth 20000 in
theorem mc_27 : mj_cw (mj_mt 27) ∈ lw_tbl := mj_tb_mem 3 (List.mem_of_getElem? (l := tables_1_3) (i := 91) rfl)
set_option maxRecDepth 20000 in
theorem mc_28 : mj_cw (mj_mt 28) ∈ lw_tbl := mj_tb_mem 3 (List.mem_of_getElem? (l := tables_1_3) (i := 94) rfl)
set_option maxRecDepth 20000 in
theorem mc_29 : mj_cw (mj_mt 29) ∈ lw_tbl := mj_tb_mem 3 (List.mem_of_getElem? (l := tables_1_3) (i := 98) rfl)
set_option maxRecDepth 20000 in
theorem mc_30 : mj_cw (mj_mt 30) ∈ lw_tbl := mj_tb_mem 3 (List.mem_of_getElem? (l := tables_1_3) (i := 104) rfl)
set_option maxRecDepth 20000 in
theorem mc_31 : mj_cw (mj_mt 31) ∈ lw_tbl := mj_tb_mem 3 (List.mem_of_getElem? (l := tables_1_3) (i := 108) rfl)
set_option maxRecDepth 20000 in
theorem mc_32 : mj_cw (mj_mt 32) ∈ lw_tbl := mj_tb_mem 3 (List.mem_of_getElem? (l := tables_1_3) (i := 112) rfl)
set_option maxRecDepth 20000 in
theorem mc_33 : mj_cw (mj_mt 33) ∈ lw_tbl := mj_tb_mem 3 (List.mem_of_getElem? (l := tables_1_3) (i := 118) rfl)
set_option maxRecDepth 20000 in
theorem mc_34 : mj_cw (mj_mt 34) ∈ lw_tbl := mj_tb_mem 3 (List.mem_of_getElem? (l := tables_1_3) (i := 143) rfl)
set_option maxRecDepth 20000 in
theorem mc_36 : mj_cw (mj_mt 36) ∈ lw_tbl := mj_tb_mem 3 (List.mem_of_getElem? (l := tables_1_3) (i := 162) rfl)
set_option maxRecDepth 20000 in
theorem mc_37 : mj_cw (mj_mt 37) ∈ lw_tbl := mj_tb_mem 3 (List.mem_of_getElem? (l := tables_1_3) (i := 165) rfl)
set_option maxRecDepth 20000 in
theorem mc_38 : mj_cw (mj_mt 38) ∈ lw_tbl := mj_tb_mem 3 (List.mem_of_getElem? (l := tables_1_3) (i := 168) rfl)
set_option maxRecDepth 20000 in
theorem mc_39 : mj_cw (mj_mt 39) ∈ lw_tbl := mj_tb_mem 3 (List.mem_of_getElem? (l := tables_1_3) (i := 185) rfl)
set_option maxRecDepth 20000 in
theorem mc_40 : mj_cw (mj_mt 40) ∈ lw_tbl := mj_tb_mem 3 (List.mem_of_getElem? (l := tables_1_3) (i := 192) rfl)
set_option maxRecDepth 20000 in
theorem mc_41 : mj_cw (mj_mt 41) ∈ lw_tbl := mj_tb_mem 3 (List.mem_of_getElem? (l := tables_1_3) (i := 196) rfl)
set_option maxRecDepth 20000 in
theorem mc_42 : mj_cw (mj_mt 42) ∈ lw_tbl := mj_tb_mem 3 (List.mem_of_getElem? (l := tables_1_3) (i := 200) rfl)
set_option maxRecDepth 20000 in
theorem mc_43 : mj_cw (mj_mt 43) ∈ lw_tbl := mj_tb_mem 3 (List.mem_of_getElem? (l := tables_1_3) (i := 203) rfl)
set_option maxRecDepth 20000 in
theorem mc_44 : mj_cw (mj_mt 44) ∈ lw_tbl := mj_tb_mem 3 (List.mem_of_getElem? (l := tables_1_3) (i := 207) rfl)
set_option maxRecDepth 20000 in
theorem mc_45 : mj_cw (mj_mt 45) ∈ lw_tbl := mj_tb_mem 3 (List.mem_of_getElem? (l := tables_1_3) (i := 210) rfl)
set_option maxRecDepth 20000 in
theorem mc_46 : mj_cw (mj_mt 46) ∈ lw_tbl := mj_tb_mem 3 (List.mem_of_getElem? (l := tables_1_3) (i := 214) rfl)
set_option maxRecDepth 20000 in
theorem mc_47 : mj_cw (mj_mt 47) ∈ lw_tbl := mj_tb_mem 3 (List.mem_of_getElem? (l := tables_1_3) (i := 218) rfl)
set_option maxRecDepth 20000 in
theorem mc_48 : mj_cw (mj_mt 48) ∈ lw_tbl := mj_tb_mem 3 (List.mem_of_getElem? (l := tables_1_3) (i := 223) rfl)
set_option maxRecDepth 20000 in
theorem mc_49 : mj_cw (mj_mt 49) ∈ lw_tbl := mj_tb_mem 3 (List.mem_of_getElem? (l := tables_1_3) (i := 228) rfl)
set_option maxRecDepth 20000 in
theorem mc_50 : mj_cw (mj_mt 50) ∈ lw_tbl := mj_tb_mem 3 (List.mem_of_getElem? (l := tables_1_3) (i := 232) rfl)
set_option maxRecDepth 20000 in
theorem mc_51 : mj_cw (mj_mt 51) ∈ lw_tbl := mj_tb_mem 3 (List.mem_of_getElem? (l := tables_1_3) (i := 237) rfl)
set_option maxRecDepth 20000 in
theorem mc_52 : mj_cw (mj_mt 52) ∈ lw_tbl := mj_tb_mem 4 (List.mem_of_getElem? (l := tables_1_4) (i := 1) rfl)
set_option maxRecDepth 20000 in
theorem mc_53 : mj_cw (mj_mt 53) ∈ lw_tbl := mj_tb_mem 4 (List.mem_of_getElem? (l := tables_1_4) (i := 6) rfl)
set_option maxRecDepth 20000 in
theorem mc_54 : mj_cw (mj_mt 54) ∈ lw_tbl := mj_tb_mem 4 (List.mem_of_getElem? (l := tables_1_4) (i := 9) rfl)
set_option maxRecDepth 20000 in
theorem mc_55 : mj_cw (mj_mt 55) ∈ lw_tbl := mj_tb_mem 4 (List.mem_of_getElem? (l := tables_1_4) (i := 13) rfl)
set_option maxRecDepth 20000 in
theorem mc_56 : mj_cw (mj_mt 56) ∈ lw_tbl := mj_tb_mem 4 (List.mem_of_getElem? (l := tables_1_4) (i := 17) rfl)
set_option maxRecDepth 20000 in
theorem mc_57 : mj_cw (mj_mt 57) ∈ lw_tbl := mj_tb_mem 4 (List.mem_of_getElem? (l := tables_1_4) (i := 20) rfl)
set_option maxRecDepth 20000 in
theorem mc_58 : mj_cw (mj_mt 58) ∈ lw_tbl := mj_tb_mem 4 (List.mem_of_getElem? (l := tables_1_4) (i := 25) rfl)
set_option maxRecDepth 20000 in
theorem mc_59 : mj_cw (mj_mt 59) ∈ lw_tbl := mj_tb_mem 4 (List.mem_of_getElem? (l := tables_1_4) (i := 29) rfl)
set_option maxRecDepth 20000 in
theorem mc_60 : mj_cw (mj_mt 60) ∈ lw_tbl := mj_tb_mem 4 (List.mem_of_getElem? (l := tables_1_4) (i := 32) rfl)
set_option maxRecDepth 20000 in
theorem mc_61 : mj_cw (mj_mt 61) ∈ lw_tbl := mj_tb_mem 4 (List.mem_of_getElem? (l := tables_1_4) (i := 36) rfl)
set_option maxRecDepth 20000 in
theorem mc_62 : mj_cw (mj_mt 62) ∈ lw_tbl := mj_tb_mem 4 (List.mem_of_getElem? (l := tables_1_4) (i := 40) rfl)
set_option maxRecDepth 20000 in
theorem mc_63 : mj_cw (mj_mt 63) ∈ lw_tbl := mj_tb_mem 4 (List.mem_of_getElem? (l := tables_1_4) (i := 46) rfl)
set_option maxRecDepth 20000 in
theorem mc_64 : mj_cw (mj_mt 64) ∈ lw_tbl := mj_tb_mem 4 (List.mem_of_getElem? (l := tables_1_4) (i := 52) rfl)
set_option maxRecDepth 20000 in
theorem mc_65 : mj_cw (mj_mt 65) ∈ lw_tbl := mj_tb_mem 4 (List.mem_of_getElem? (l := tables_1_4) (i := 56) rfl)
set_option maxRecDepth 20000 in
theorem mc_66 : mj_cw (mj_mt 66) ∈ lw_tbl := mj_tb_mem 4 (List.mem_of_getElem? (l := tables_1_4) (i := 61) rfl)
set_option maxRecDepth 20000 in
theorem mc_67 : mj_cw (mj_mt 67) ∈ lw_tbl := mj_tb_mem 4 (List.mem_of_getElem? (l := tables_1_4) (i := 65) rfl)
set_option maxRecDepth 20000 in
theorem mc_68 : mj_cw (mj_mt 68) ∈ lw_tbl := mj_tb_mem 4 (List.mem_of_getElem? (l := tables_1_4) (i := 68) rfl)
set_option maxRecDepth 20000 in
theorem mc_69 : mj_cw (mj_mt 69) ∈ lw_tbl := mj_tb_mem 4 (List.mem_of_getElem? (l := tables_1_4) (i := 73) rfl)
set_option maxRecDepth 20000 in
theorem mc_70 : mj_cw (mj_mt 70) ∈ lw_tbl := mj_tb_mem 4 (List.mem_of_getElem? (l := tables_1_4) (i := 77) rfl)
set_option maxRecDepth 20000 in
theorem mc_71 : mj_cw (mj_mt 71) ∈ lw_tbl := mj_tb_mem 4 (List.mem_of_getElem? (l := tables_1_4) (i := 81) rfl)
set_option maxRecDepth 20000 in
theorem mc_72 : mj_cw (mj_mt 72) ∈ lw_tbl := mj_tb_mem 4 (List.mem_of_getElem? (l := tables_1_4) (i := 85) rfl)
set_option maxRecDepth 20000 in
theorem mc_73 : mj_cw (mj_mt 73) ∈ lw_tbl := mj_tb_mem 4 (List.mem_of_getElem? (l := tables_1_4) (i := 90) rfl)
set_option maxRecDepth 20000 in
theorem mc_74 : mj_cw (mj_mt 74) ∈ lw_tbl := mj_tb_mem 4 (List.mem_of_getElem? (l := tables_1_4) (i := 94) rfl)
set_option maxRecDepth 20000 in
theorem mc_75 : mj_cw (mj_mt 75) ∈ lw_tbl := mj_tb_mem 4 (List.mem_of_getElem? (l := tables_1_4) (i := 100) rfl)
set_option maxRecDepth 20000 in
theorem mc_76 : mj_cw (mj_mt 76) ∈ lw_tbl := mj_tb_mem 4 (List.mem_of_getElem? (l := tables_1_4) (i := 104) rfl)
set_option maxRecDepth 20000 in
theorem mc_77 : mj_cw (mj_mt 77) ∈ lw_tbl := mj_tb_mem 4 (List.mem_of_getElem? (l := tables_1_4) (i := 110) rfl)
set_option maxRecDepth 20000 in
theorem mc_78 : mj_cw (mj_mt 78) ∈ lw_tbl := mj_tb_mem 4 (List.mem_of_getElem? (l := tables_1_4) (i := 114) rfl)
set_option maxRecDepth 20000 in
theorem mc_79 : mj_cw (mj_mt 79) ∈ lw_tbl := mj_tb_mem 4 (List.mem_of_getElem? (l := tables_1_4) (i := 118) rfl)
set_option maxRecDepth 20000 in
theorem mc_80 : mj_cw (mj_mt 80) ∈ lw_tbl := mj_tb_mem 4 (List.mem_of_getElem? (l := tables_1_4) (i := 122) rfl)
set_option maxRecDepth 20000 in
theorem mc_81 : mj_cw (mj_mt 81) ∈ lw_tbl := mj_tb_mem 4 (List.mem_of_getElem? (l := tables_1_4) (i := 127) rfl)
set_option maxRecDepth 20000 in
theorem mc_82 : mj_cw (mj_mt 82) ∈ lw_tbl := mj_tb_mem 4 (List.mem_of_getElem? (l := tables_1_4) (i := 135) rfl)
set_option maxRecDepth 20000 in
theorem mc_83 : mj_cw (mj_mt 83) ∈ lw_tbl := mj_tb_mem 4 (List.mem_of_getElem? (l := tables_1_4) (i := 140) rfl)
set_option maxRecDepth 20000 in
theorem mc_84 : mj_cw (mj_mt 84) ∈ lw_tbl := mj_tb_mem 4 (List.mem_of_getElem? (l := tables_1_4) (i := 145) rfl)
set_option maxRecDepth 20000 in
theorem mc_85 : mj_cw (mj_mt 85) ∈ lw_tbl := mj_tb_mem 4 (List.mem_of_getElem? (l := tables_1_4) (i := 149) rfl)
set_option maxRecDepth 20000 in
theorem mc_86 : mj_cw (mj_mt 86) ∈ lw_tbl := mj_tb_mem 4 (List.mem_of_getElem? (l := tables_1_4) (i := 153) rfl)
set_option maxRecDepth 20000 in
theorem mc_87 : mj_cw (mj_mt 87) ∈ lw_tbl := mj_tb_mem 4 (List.mem_of_getElem? (l := tables_1_4) (i := 157) rfl)
set_option maxRecDepth 20000 in
theorem mc_88 : mj_cw (mj_mt 88) ∈ lw_tbl := mj_tb_mem 4 (List.mem_of_getElem? (l := tables_1_4) (i := 161) rfl)
set_option maxRecDepth 20000 in
theorem mc_89 : mj_cw (mj_mt 89) ∈ lw_tbl := mj_tb_mem 4 (List.mem_of_getElem? (l := tables_1_4) (i := 165) rfl)
set_option maxRecDepth 20000 in
theorem mc_90 : mj_cw (mj_mt 90) ∈ lw_tbl := mj_tb_mem 4 (List.mem_of_getElem? (l := tables_1_4) (i := 169) rfl)
set_option maxRecDepth 20000 in
theorem mc_91 : mj_cw (mj_mt 91) ∈ lw_tbl := mj_tb_mem 4 (List.mem_of_getElem? (l := tables_1_4) (i := 173) rfl)
set_option maxRecDepth 20000 in
theorem mc_92 : mj_cw (mj_mt 92) ∈ lw_tbl := mj_tb_mem 4 (List.mem_of_getElem? (l := tables_1_4) (i := 177) rfl)
set_option maxRecDepth 20000 in
theorem mc_93 : mj_cw (mj_mt 93) ∈ lw_tbl := mj_tb_mem 4 (List.mem_of_getElem? (l := tables_1_4) (i := 185) rfl)
set_option maxRecDepth 20000 in
theorem mc_94 : mj_cw (mj_mt 94) ∈ lw_tbl := mj_tb_mem 4 (List.mem_of_getElem? (l := tables_1_4) (i := 195) rfl)
set_option maxRecDepth 20000 in
theorem mc_95 : mj_cw (mj_mt 95) ∈ lw_tbl := mj_tb_mem 4 (List.mem_of_getElem? (l := tables_1_4) (i := 199) rfl)
set_option maxRecDepth 20000 in
theorem mc_96 : mj_cw (mj_mt 96) ∈ lw_tbl := mj_tb_mem 5 (List.mem_of_getElem? (l := tables_1_5) (i := 36) rfl)
set_option maxRecDepth 20000 in
theorem mc_97 : mj_cw (mj_mt 97) ∈ lw_tbl := mj_tb_mem 5 (List.mem_of_getElem? (l := tables_1_5) (i := 40) rfl)
set_option maxRecDepth 20000 in
theorem mc_98 : mj_cw (mj_mt 98) ∈ lw_tbl := mj_tb_mem 5 (List.mem_of_getElem? (l := tables_1_5) (i := 45) rfl)
set_option maxRecDepth 20000 in
theorem mc_99 : mj_cw (mj_mt 99) ∈ lw_tbl := mj_tb_mem 5 (List.mem_of_getElem? (l := tables_1_5) (i := 50) rfl)
set_option maxRecDepth 20000 in
theorem mc_100 : mj_cw (mj_mt 100) ∈ lw_tbl := mj_tb_mem 5 (List.mem_of_getElem? (l := tables_1_5) (i := 53) rfl)
set_option maxRecDepth 20000 in
theorem mc_101 : mj_cw (mj_mt 101) ∈ lw_tbl := mj_tb_mem 5 (List.mem_of_getElem? (l := tables_1_5) (i := 65) rfl)
set_option maxRecDepth 20000 in
theorem mc_102 : mj_cw (mj_mt 102) ∈ lw_tbl := mj_tb_mem 5 (List.mem_of_getElem? (l := tables_1_5) (i := 71) rfl)
set_option maxRecDepth 20000 in
theorem mc_103 : mj_cw (mj_mt 103) ∈ lw_tbl := mj_tb_mem 5 (List.mem_of_getElem? (l := tables_1_5) (i := 76) rfl)
set_option maxRecDepth 20000 in
theorem mc_104 : mj_cw (mj_mt 104) ∈ lw_tbl := mj_tb_mem 5 (List.mem_of_getElem? (l := tables_1_5) (i := 79) rfl)
set_option maxRecDepth 20000 in
theorem mc_105 : mj_cw (mj_mt 105) ∈ lw_tbl := mj_tb_mem 5 (List.mem_of_getElem? (l := tables_1_5) (i := 91) rfl)
set_option maxRecDepth 20000 in
theorem mc_106 : mj_cw (mj_mt 106) ∈ lw_tbl := mj_tb_mem 5 (List.mem_of_getElem? (l := tables_1_5) (i := 98) rfl)
set_option maxRecDepth 20000 in
theorem mc_107 : mj_cw (mj_mt 107) ∈ lw_tbl := mj_tb_mem 5 (List.mem_of_getElem? (l := tables_1_5) (i := 102) rfl)
set_option maxRecDepth 20000 in
theorem mc_108 : mj_cw (mj_mt 108) ∈ lw_tbl := mj_tb_mem 5 (List.mem_of_getElem? (l := tables_1_5) (i := 105) rfl)
set_option maxRecDepth 20000 in
theorem mc_109 : mj_cw (mj_mt 109) ∈ lw_tbl := mj_tb_mem 5 (List.mem_of_getElem? (l := tables_1_5) (i := 109) rfl)
set_option maxRecDepth 20000 in
theorem mc_110 : mj_cw (mj_mt 110) ∈ lw_tbl := mj_tb_mem 5 (List.mem_of_getElem? (l := tables_1_5) (i := 113) rfl)
set_option maxRecDepth 20000 in
theorem mc_111 : mj_cw (mj_mt 111) ∈ lw_tbl := mj_tb_mem 5 (List.mem_of_getElem? (l := tables_1_5) (i := 117) rfl)
set_option maxRecDepth 20000 in
theorem mc_112 : mj_cw (mj_mt 112) ∈ lw_tbl := mj_tb_mem 5 (List.mem_of_getElem? (l := tables_1_5) (i := 121) rfl)
set_option maxRecDepth 20000 in
theorem mc_113 : mj_cw (mj_mt 113) ∈ lw_tbl := mj_tb_mem 5 (List.mem_of_getElem? (l := tables_1_5) (i := 125) rfl)
set_option maxRecDepth 20000 in
theorem mc_114 : mj_cw (mj_mt 114) ∈ lw_tbl := mj_tb_mem 5 (List.mem_of_getElem? (l := tables_1_5) (i := 129) rfl)
set_option maxRecDepth 20000 in
theorem mc_115 : mj_cw (mj_mt 115) ∈ lw_tbl := mj_tb_mem 5 (List.mem_of_getElem? (l := tables_1_5) (i := 133) rfl)
set_option maxRecDepth 20000 in
theorem mc_116 : mj_cw (mj_mt 116) ∈ lw_tbl := mj_tb_mem 5 (List.mem_of_getElem? (l := tables_1_5) (i := 136) rfl)
set_option maxRecDepth 20000 in
theorem mc_117 : mj_cw (mj_mt 117) ∈ lw_tbl := mj_tb_mem 5 (List.mem_of_getElem? (l := tables_1_5) (i := 140) rfl)
set_option maxRecDepth 20000 in
theorem mc_118 : mj_cw (mj_mt 118) ∈ lw_tbl := mj_tb_mem 5 (List.mem_of_getElem? (l := tables_1_5) (i := 143) rfl)
set_option maxRecDepth 20000 in
theorem mc_119 : mj_cw (mj_mt 119) ∈ lw_tbl := mj_tb_mem 5 (List.mem_of_getElem? (l := tables_1_5) (i := 147) rfl)
set_option maxRecDepth 20000 in
theorem mc_120 : mj_cw (mj_mt 120) ∈ lw_tbl := mj_tb_mem 5 (List.mem_of_getElem? (l := tables_1_5) (i := 150) rfl)
set_option maxRecDepth 20000 in
theorem mc_121 : mj_cw (mj_mt 121) ∈ lw_tbl := mj_tb_mem 5 (List.mem_of_getElem? (l := tables_1_5) (i := 154) rfl)
set_option maxRecDepth 20000 in
theorem mc_122 : mj_cw (mj_mt 122) ∈ lw_tbl := mj_tb_mem 5 (List.mem_of_getElem? (l := tables_1_5) (i := 157) rfl)
set_option maxRecDepth 20000 in
theorem mc_123 : mj_cw (mj_mt 123) ∈ lw_tbl := mj_tb_mem 5 (List.mem_of_getElem? (l := tables_1_5) (i := 161) rfl)
set_option maxRecDepth 20000 in
theorem mc_124 : mj_cw (mj_mt 124) ∈ lw_tbl := mj_tb_mem 5 (List.mem_of_getElem? (l := tables_1_5) (i := 165) rfl)
set_option maxRecDepth 20000 in
theorem mc_125 : mj_cw (mj_mt 125) ∈ lw_tbl := mj_tb_mem 5 (List.mem_of_getElem? (l := tables_1_5) (i := 169) rfl)
set_option maxRecDepth 20000 in
theorem mc_126 : mj_cw (mj_mt 126) ∈ lw_tbl := mj_tb_mem 5 (List.mem_of_getElem? (l := tables_1_5) (i := 173) rfl)
set_option maxRecDepth 20000 in
theorem mc_127 : mj_cw (mj_mt 127) ∈ lw_tbl := mj_tb_mem 5 (List.mem_of_getElem? (l := tables_1_5) (i := 178) rfl)
set_option maxRecDepth 20000 in
theorem mc_128 : mj_cw (mj_mt 128) ∈ lw_tbl := mj_tb_mem 5 (List.mem_of_getElem? (l := tables_1_5) (i := 184) rfl)
set_option maxRecDepth 20000 in
theorem mc_129 : mj_cw (mj_mt 129) ∈ lw_tbl := mj_tb_mem 5 (List.mem_of_getElem? (l := tables_1_5) (i := 189) rfl)
set_option maxRecDepth 20000 in
theorem mc_130 : mj_cw (mj_mt 130) ∈ lw_tbl := mj_tb_mem 5 (List.mem_of_getElem? (l := tables_1_5) (i := 193) rfl)
set_option maxRecDepth 20000 in
theorem mc_131 : mj_cw (mj_mt 131) ∈ lw_tbl := mj_tb_mem 5 (List.mem_of_getElem? (l := tables_1_5) (i := 197) rfl)
set_option maxRecDepth 20000 in
theorem mc_132 : mj_cw (mj_mt 132) ∈ lw_tbl := mj_tb_mem 5 (List.mem_of_getElem? (l := tables_1_5) (i := 200) rfl)
set_option maxRecDepth 20000 in
theorem mc_133 : mj_cw (mj_mt 133) ∈ lw_tbl := mj_tb_mem 5 (List.mem_of_getElem? (l := tables_1_5) (i := 206) rfl)
set_option maxRecDepth 20000 in
theorem mc_134 : mj_cw (mj_mt 134) ∈ lw_tbl := mj_tb_mem 5 (List.mem_of_getElem? (l := tables_1_5) (i := 211) rfl)
set_option maxRecDepth 20000 in
theorem mc_135 : mj_cw (mj_mt 135) ∈ lw_tbl := mj_tb_mem 5 (List.mem_of_getElem? (l := tables_1_5) (i := 215) rfl)
set_option maxRecDepth 20000 in
theorem mc_136 : mj_cw (mj_mt 136) ∈ lw_tbl := mj_tb_mem 5 (List.mem_of_getElem? (l := tables_1_5) (i := 218) rfl)
set_option maxRecDepth 20000 in
theorem mc_137 : mj_cw (mj_mt 137) ∈ lw_tbl := mj_tb_mem 5 (List.mem_of_getElem? (l := tables_1_5) (i := 223) rfl)
set_option maxRecDepth 20000 in
theorem mc_138 : mj_cw (mj_mt 138) ∈ lw_tbl := mj_tb_mem 5 (List.mem_of_getElem? (l := tables_1_5) (i := 226) rfl)
set_option maxRecDepth 20000 in
theorem mc_139 : mj_cw (mj_mt 139) ∈ lw_tbl := mj_tb_mem 5 (List.mem_of_getElem? (l := tables_1_5) (i := 232) rfl)
set_option maxRecDepth 20000 in
theorem mc_140 : mj_cw (mj_mt 140) ∈ lw_tbl := mj_tb_mem 5 (List.mem_of_getElem? (l := tables_1_5) (i := 235) rfl)
set_option maxRecDepth 20000 in
theorem mc_141 : mj_cw (mj_mt 141) ∈ lw_tbl := mj_tb_mem 5 (List.mem_of_getElem? (l := tables_1_5) (i := 239) rfl)
set_option maxRecDepth 20000 in
theorem mc_142 : mj_cw (mj_mt 142) ∈ lw_tbl := mj_tb_mem 6 (List.mem_of_getElem? (l := tables_1_6) (i := 3) rfl)
set_option maxRecDepth 20000 in
theorem mc_143 : mj_cw (mj_mt 143) ∈ lw_tbl := mj_tb_mem 6 (List.mem_of_getElem? (l := tables_1_6) (i := 7) rfl)
set_option maxRecDepth 20000 in
theorem mc_144 : mj_cw (mj_mt 144) ∈ lw_tbl := mj_tb_mem 6 (List.mem_of_getElem? (l := tables_1_6) (i := 11) rfl)
set_option maxRecDepth 20000 in
theorem mc_145 : mj_cw (mj_mt 145) ∈ lw_tbl := mj_tb_mem 6 (List.mem_of_getElem? (l := tables_1_6) (i := 15) rfl)
set_option maxRecDepth 20000 in
theorem mc_146 : mj_cw (mj_mt 146) ∈ lw_tbl := mj_tb_mem 6 (List.mem_of_getElem? (l := tables_1_6) (i := 18) rfl)
set_option maxRecDepth 20000 in
theorem mc_147 : mj_cw (mj_mt 147) ∈ lw_tbl := mj_tb_mem 6 (List.mem_of_getElem? (l := tables_1_6) (i := 23) rfl)
set_option maxRecDepth 20000 in
theorem mc_148 : mj_cw (mj_mt 148) ∈ lw_tbl := mj_tb_mem 6 (List.mem_of_getElem? (l := tables_1_6) (i := 28) rfl)
set_option maxRecDepth 20000 in
theorem mc_149 : mj_cw (mj_mt 149) ∈ lw_tbl := mj_tb_mem 6 (List.mem_of_getElem? (l := tables_1_6) (i := 32) rfl)
set_option maxRecDepth 20000 in
theorem mc_150 : mj_cw (mj_mt 150) ∈ lw_tbl := mj_tb_mem 6 (List.mem_of_getElem? (l := tables_1_6) (i := 36) rfl)
set_option maxRecDepth 20000 in
theorem mc_151 : mj_cw (mj_mt 151) ∈ lw_tbl := mj_tb_mem 6 (List.mem_of_getElem? (l := tables_1_6) (i := 39) rfl)
set_option maxRecDepth 20000 in
theorem mc_152 : mj_cw (mj_mt 152) ∈ lw_tbl := mj_tb_mem 6 (List.mem_of_getElem? (l := tables_1_6) (i := 42) rfl)
set_option maxRecDepth 20000 in
theorem mc_153 : mj_cw (mj_mt 153) ∈ lw_tbl := mj_tb_mem 6 (List.mem_of_getElem? (l := tables_1_6) (i := 46) rfl)
set_option maxRecDepth 20000 in
theorem mc_154 : mj_cw (mj_mt 154) ∈ lw_tbl := mj_tb_mem 6 (List.mem_of_getElem? (l := tables_1_6) (i := 50) rfl)
set_option maxRecDepth 20000 in
theorem mc_155 : mj_cw (mj_mt 155) ∈ lw_tbl := mj_tb_mem 6 (List.mem_of_getElem? (l := tables_1_6) (i := 56) rfl)
set_option maxRecDepth 20000 in
theorem mc_156 : mj_cw (mj_mt 156) ∈ lw_tbl := mj_tb_mem 6 (List.mem_of_getElem? (l := tables_1_6) (i := 59) rfl)
set_option maxRecDepth 20000 in
theorem mc_157 : mj_cw (mj_mt 157) ∈ lw_tbl := mj_tb_mem 6 (List.mem_of_getElem? (l := tables_1_6) (i := 63) rfl)
set_option maxRecDepth 20000 in
theorem mc_158 : mj_cw (mj_mt 158) ∈ lw_tbl := mj_tb_mem 6 (List.mem_of_getElem? (l := tables_1_6) (i := 72) rfl)
set_option maxRecDepth 20000 in
theorem mc_159 : mj_cw (mj_mt 159) ∈ lw_tbl := mj_tb_mem 6 (List.mem_of_getElem? (l := tables_1_6) (i := 76) rfl)
set_option maxRecDepth 20000 in
theorem mc_160 : mj_cw (mj_mt 160) ∈ lw_tbl := mj_tb_mem 6 (List.mem_of_getElem? (l := tables_1_6) (i := 80) rfl)
set_option maxRecDepth 20000 in
theorem mc_161 : mj_cw (mj_mt 161) ∈ lw_tbl := mj_tb_mem 6 (List.mem_of_getElem? (l := tables_1_6) (i := 84) rfl)
set_option maxRecDepth 20000 in
theorem mc_162 : mj_cw (mj_mt 162) ∈ lw_tbl := mj_tb_mem 6 (List.mem_of_getElem? (l := tables_1_6) (i := 91) rfl)
set_option maxRecDepth 20000 in
theorem mc_163 : mj_cw (mj_mt 163) ∈ lw_tbl := mj_tb_mem 6 (List.mem_of_getElem? (l := tables_1_6) (i := 95) rfl)
set_option maxRecDepth 20000 in
theorem mc_164 : mj_cw (mj_mt 164) ∈ lw_tbl := mj_tb_mem 6 (List.mem_of_getElem? (l := tables_1_6) (i := 99) rfl)
set_option maxRecDepth 20000 in
theorem mc_165 : mj_cw (mj_mt 165) ∈ lw_tbl := mj_tb_mem 6 (List.mem_of_getElem? (l := tables_1_6) (i := 103) rfl)
set_option maxRecDepth 20000 in
theorem mc_166 : mj_cw (mj_mt 166) ∈ lw_tbl := mj_tb_mem 6 (List.mem_of_getElem? (l := tables_1_6) (i := 107) rfl)
set_option maxRecDepth 20000 in
theorem mc_167 : mj_cw (mj_mt 167) ∈ lw_tbl := mj_tb_mem 6 (List.mem_of_getElem? (l := tables_1_6) (i := 112) rfl)
set_option maxRecDepth 20000 in
theorem mc_168 : mj_cw (mj_mt 168) ∈ lw_tbl := mj_tb_mem 6 (List.mem_of_getElem? (l := tables_1_6) (i := 116) rfl)
set_option maxRecDepth 20000 in
theorem mc_169 : mj_cw (mj_mt 169) ∈ lw_tbl := mj_tb_mem 6 (List.mem_of_getElem? (l := tables_1_6) (i := 120) rfl)
set_option maxRecDepth 20000 in
theorem mc_170 : mj_cw (mj_mt 170) ∈ lw_tbl := mj_tb_mem 6 (List.mem_of_getElem? (l := tables_1_6) (i := 128) rfl)
set_option maxRecDepth 20000 in
theorem mc_171 : mj_cw (mj_mt 171) ∈ lw_tbl := mj_tb_mem 6 (List.mem_of_getElem? (l := tables_1_6) (i := 132) rfl)
set_option maxRecDepth 20000 in
theorem mc_172 : mj_cw (mj_mt 172) ∈ lw_tbl := mj_tb_mem 6 (List.mem_of_getElem? (l := tables_1_6) (i := 135) rfl)
set_option maxRecDepth 20000 in
theorem mc_173 : mj_cw (mj_mt 173) ∈ lw_tbl := mj_tb_mem 6 (List.mem_of_getElem? (l := tables_1_6) (i := 139) rfl)
set_option maxRecDepth 20000 in
theorem mc_174 : mj_cw (mj_mt 174) ∈ lw_tbl := mj_tb_mem 6 (List.mem_of_getElem? (l := tables_1_6) (i := 142) rfl)
set_option maxRecDepth 20000 in
theorem mc_175 : mj_cw (mj_mt 175) ∈ lw_tbl := mj_tb_mem 6 (List.mem_of_getElem? (l := tables_1_6) (i := 146) rfl)
set_option maxRecDepth 20000 in
theorem mc_176 : mj_cw (mj_mt 176) ∈ lw_tbl := mj_tb_mem 6 (List.mem_of_getElem? (l := tables_1_6) (i := 149) rfl)
set_option maxRecDepth 20000 in
theorem mc_177 : mj_cw (mj_mt 177) ∈ lw_tbl := mj_tb_mem 6 (List.mem_of_getElem? (l := tables_1_6) (i := 153) rfl)
set_option maxRecDepth 20000 in
theorem mc_178 : mj_cw (mj_mt 178) ∈ lw_tbl := mj_tb_mem 6 (List.mem_of_getElem? (l := tables_1_6) (i := 156) rfl)
set_option maxRecDepth 20000 in
theorem mc_179 : mj_cw (mj_mt 179) ∈ lw_tbl := mj_tb_mem 6 (List.mem_of_getElem? (l := tables_1_6) (i := 160) rfl)
set_option maxRecDepth 20000 in
theorem mc_180 : mj_cw (mj_mt 180) ∈ lw_tbl := mj_tb_mem 6 (List.mem_of_getElem? (l := tables_1_6) (i := 164) rfl)
set_option maxRecDepth 20000 in
theorem mc_181 : mj_cw (mj_mt 181) ∈ lw_tbl := mj_tb_mem 6 (List.mem_of_getElem? (l := tables_1_6) (i := 167) rfl)
set_option maxRecDepth 20000 in
theorem mc_182 : mj_cw (mj_mt 182) ∈ lw_tbl := mj_tb_mem 6 (List.mem_of_getElem? (l := tables_1_6) (i := 170) rfl)
set_option maxRecDepth 20000 in
theorem mc_183 : mj_cw (mj_mt 183) ∈ lw_tbl := mj_tb_mem 6 (List.mem_of_getElem? (l := tables_1_6) (i := 174) rfl)
set_option maxRecDepth 20000 in
theorem mc_184 : mj_cw (mj_mt 184) ∈ lw_tbl := mj_tb_mem 6 (List.mem_of_getElem? (l := tables_1_6) (i := 178) rfl)
set_option maxRecDepth 20000 in
theorem mc_185 : mj_cw (mj_mt 185) ∈ lw_tbl := mj_tb_mem 6 (List.mem_of_getElem? (l := tables_1_6) (i := 182) rfl)
set_option maxRecDepth 20000 in
theorem mc_186 : mj_cw (mj_mt 186) ∈ lw_tbl := mj_tb_mem 6 (List.mem_of_getElem? (l := tables_1_6) (i := 186) rfl)
set_option maxRecDepth 20000 in
theorem mc_187 : mj_cw (mj_mt 187) ∈ lw_tbl := mj_tb_mem 6 (List.mem_of_getElem? (l := tables_1_6) (i := 189) rfl)
set_option maxRecDepth 20000 in
theorem mc_188 : mj_cw (mj_mt 188) ∈ lw_tbl := mj_tb_mem 6 (List.mem_of_getElem? (l := tables_1_6) (i := 193) rfl)
set_option maxRecDepth 20000 in
theorem mc_189 : mj_cw (mj_mt 189) ∈ lw_tbl := mj_tb_mem 6 (List.mem_of_getElem? (l := tables_1_6) (i := 197) rfl)
set_option maxRecDepth 20000 in
theorem mc_190 : mj_cw (mj_mt 190) ∈ lw_tbl := mj_tb_mem 6 (List.mem_of_getElem? (l := tables_1_6) (i := 203) rfl)
set_option maxRecDepth 20000 in
theorem mc_191 : mj_cw (mj_mt 191) ∈ lw_tbl := mj_tb_mem 6 (List.mem_of_getElem? (l := tables_1_6) (i := 213) rfl)
set_option maxRecDepth 20000 in
theorem mc_192 : mj_cw (mj_mt 192) ∈ lw_tbl := mj_tb_mem 6 (List.mem_of_getElem? (l := tables_1_6) (i := 216) rfl)
set_option maxRecDepth 20000 in
theorem mc_193 : mj_cw (mj_mt 193) ∈ lw_tbl := mj_tb_mem 6 (List.mem_of_getElem? (l := tables_1_6) (i := 222) rfl)
set_option maxRecDepth 20000 in
theorem mc_194 : mj_cw (mj_mt 194) ∈ lw_tbl := mj_tb_mem 6 (List.mem_of_getElem? (l := tables_1_6) (i := 228) rfl)
set_option maxRecDepth 20000 in
theorem mc_195 : mj_cw (mj_mt 195) ∈ lw_tbl := mj_tb_mem 6 (List.mem_of_getElem? (l := tables_1_6) (i := 232) rfl)
set_option maxRecDepth 20000 in
theorem mc_196 : mj_cw (mj_mt 196) ∈ lw_tbl := mj_tb_mem 6 (List.mem_of_getElem? (l := tables_1_6) (i := 235) rfl)
set_option maxRecDepth 20000 in
theorem mc_197 : mj_cw (mj_mt 197) ∈ lw_tbl := mj_tb_mem 6 (List.mem_of_getElem? (l := tables_1_6) (i := 238) rfl)
set_option maxRecDepth 20000 in
theorem mc_198 : mj_cw (mj_mt 198) ∈ lw_tbl := mj_tb_mem 7 (List.mem_of_getElem? (l := tables_1_7) (i := 2) rfl)
set_option maxRecDepth 20000 in
theorem mc_199 : mj_cw (mj_mt 199) ∈ lw_tbl := mj_tb_mem 7 (List.mem_of_getElem? (l := tables_1_7) (i := 6) rfl)
set_option maxRecDepth 20000 in
theorem mc_200 : mj_cw (mj_mt 200) ∈ lw_tbl := mj_tb_mem 7 (List.mem_of_getElem? (l := tables_1_7) (i := 9) rfl)
set_option maxRecDepth 20000 in
theorem mc_201 : mj_cw (mj_mt 201) ∈ lw_tbl := mj_tb_mem 7 (List.mem_of_getElem? (l := tables_1_7) (i := 13) rfl)
set_option maxRecDepth 20000 in
theorem mc_202 : mj_cw (mj_mt 202) ∈ lw_tbl := mj_tb_mem 7 (List.mem_of_getElem? (l := tables_1_7) (i := 17) rfl)
set_option maxRecDepth 20000 in
theorem mc_203 : mj_cw (mj_mt 203) ∈ lw_tbl := mj_tb_mem 7 (List.mem_of_getElem? (l := tables_1_7) (i := 21) rfl)
set_option maxRecDepth 20000 in
theorem mc_204 : mj_cw (mj_mt 204) ∈ lw_tbl := mj_tb_mem 7 (List.mem_of_getElem? (l := tables_1_7) (i := 25) rfl)
set_option maxRecDepth 20000 in
theorem mc_205 : mj_cw (mj_mt 205) ∈ lw_tbl := mj_tb_mem 7 (List.mem_of_getElem? (l := tables_1_7) (i := 29) rfl)
set_option maxRecDepth 20000 in
theorem mc_206 : mj_cw (mj_mt 206) ∈ lw_tbl := mj_tb_mem 7 (List.mem_of_getElem? (l := tables_1_7) (i := 33) rfl)
set_option maxRecDepth 20000 in
theorem mc_207 : mj_cw (mj_mt 207) ∈ lw_tbl := mj_tb_mem 7 (List.mem_of_getElem? (l := tables_1_7) (i := 37) rfl)
set_option maxRecDepth 20000 in
theorem mc_208 : mj_cw (mj_mt 208) ∈ lw_tbl := mj_tb_mem 7 (List.mem_of_getElem? (l := tables_1_7) (i := 41) rfl)
set_option maxRecDepth 20000 in
theorem mc_209 : mj_cw (mj_mt 209) ∈ lw_tbl := mj_tb_mem 7 (List.mem_of_getElem? (l := tables_1_7) (i := 44) rfl)
set_option maxRecDepth 20000 in
theorem mc_210 : mj_cw (mj_mt 210) ∈ lw_tbl := mj_tb_mem 7 (List.mem_of_getElem? (l := tables_1_7) (i := 48) rfl)
set_option maxRecDepth 20000 in
theorem mc_211 : mj_cw (mj_mt 211) ∈ lw_tbl := mj_tb_mem 7 (List.mem_of_getElem? (l := tables_1_7) (i := 52) rfl)
set_option maxRecDepth 20000 in
theorem mc_212 : mj_cw (mj_mt 212) ∈ lw_tbl := mj_tb_mem 7 (List.mem_of_getElem? (l := tables_1_7) (i := 56) rfl)
set_option maxRecDepth 20000 in
theorem mc_213 : mj_cw (mj_mt 213) ∈ lw_tbl := mj_tb_mem 7 (List.mem_of_getElem? (l := tables_1_7) (i := 60) rfl)
set_option maxRecDepth 20000 in
theorem mc_214 : mj_cw (mj_mt 214) ∈ lw_tbl := mj_tb_mem 7 (List.mem_of_getElem? (l := tables_1_7) (i := 65) rfl)
set_option maxRecDepth 20000 in
theorem mc_215 : mj_cw (mj_mt 215) ∈ lw_tbl := mj_tb_mem 7 (List.mem_of_getElem? (l := tables_1_7) (i := 70) rfl)
set_option maxRecDepth 20000 in
theorem mc_216 : mj_cw (mj_mt 216) ∈ lw_tbl := mj_tb_mem 7 (List.mem_of_getElem? (l := tables_1_7) (i := 74) rfl)
set_option maxRecDepth 20000 in
theorem mc_217 : mj_cw (mj_mt 217) ∈ lw_tbl := mj_tb_mem 7 (List.mem_of_getElem? (l := tables_1_7) (i := 78) rfl)
set_option maxRecDepth 20000 in
theorem mc_218 : mj_cw (mj_mt 218) ∈ lw_tbl := mj_tb_mem 7 (List.mem_of_getElem? (l := tables_1_7) (i := 82) rfl)
set_option maxRecDepth 20000 in
theorem mc_219 : mj_cw (mj_mt 219) ∈ lw_tbl := mj_tb_mem 7 (List.mem_of_getElem? (l := tables_1_7) (i := 86) rfl)
set_option maxRecDepth 20000 in
theorem mc_220 : mj_cw (mj_mt 220) ∈ lw_tbl := mj_tb_mem 7 (List.mem_of_getElem? (l := tables_1_7) (i := 90) rfl)
set_option maxRecDepth 20000 in
theorem mc_221 : mj_cw (mj_mt 221) ∈ lw_tbl := mj_tb_mem 7 (List.mem_of_getElem? (l := tables_1_7) (i := 94) rfl)
set_option maxRecDepth 20000 in
theorem mc_222 : mj_cw (mj_mt 222) ∈ lw_tbl := mj_tb_mem 7 (List.mem_of_getElem? (l := tables_1_7) (i := 98) rfl)
set_option maxRecDepth 20000 in
theorem mc_223 : mj_cw (mj_mt 223) ∈ lw_tbl := mj_tb_mem 8 (List.mem_of_getElem? (l := tables_1_8) (i := 37) rfl)
set_option maxRecDepth 20000 in
theorem mc_224 : mj_cw (mj_mt 224) ∈ lw_tbl := mj_tb_mem 8 (List.mem_of_getElem? (l := tables_1_8) (i := 41) rfl)
set_option maxRecDepth 20000 in
theorem mc_225 : mj_cw (mj_mt 225) ∈ lw_tbl := mj_tb_mem 8 (List.mem_of_getElem? (l := tables_1_8) (i := 46) rfl)
set_option maxRecDepth 20000 in
theorem mc_226 : mj_cw (mj_mt 226) ∈ lw_tbl := mj_tb_mem 8 (List.mem_of_getElem? (l := tables_1_8) (i := 50) rfl)
set_option maxRecDepth 20000 in
theorem mc_227 : mj_cw (mj_mt 227) ∈ lw_tbl := mj_tb_mem 8 (List.mem_of_getElem? (l := tables_1_8) (i := 56) rfl)
set_option maxRecDepth 20000 in
theorem mc_228 : mj_cw (mj_mt 228) ∈ lw_tbl := mj_tb_mem 8 (List.mem_of_getElem? (l := tables_1_8) (i := 62) rfl)
set_option maxRecDepth 20000 in
theorem mc_229 : mj_cw (mj_mt 229) ∈ lw_tbl := mj_tb_mem 8 (List.mem_of_getElem? (l := tables_1_8) (i := 66) rfl)
set_option maxRecDepth 20000 in
theorem mc_230 : mj_cw (mj_mt 230) ∈ lw_tbl := mj_tb_mem 8 (List.mem_of_getElem? (l := tables_1_8) (i := 70) rfl)
set_option maxRecDepth 20000 in
theorem mc_231 : mj_cw (mj_mt 231) ∈ lw_tbl := mj_tb_mem 8 (List.mem_of_getElem? (l := tables_1_8) (i := 75) rfl)
set_option maxRecDepth 20000 in
theorem mc_232 : mj_cw (mj_mt 232) ∈ lw_tbl := mj_tb_mem 8 (List.mem_of_getElem? (l := tables_1_8) (i := 79) rfl)
set_option maxRecDepth 20000 in
theorem mc_233 : mj_cw (mj_mt 233) ∈ lw_tbl := mj_tb_mem 8 (List.mem_of_getElem? (l := tables_1_8) (i := 83) rfl)
set_option maxRecDepth 20000 in
theorem mc_234 : mj_cw (mj_mt 234) ∈ lw_tbl := mj_tb_mem 8 (List.mem_of_getElem? (l := tables_1_8) (i := 87) rfl)
set_option maxRecDepth 20000 in
theorem mc_235 : mj_cw (mj_mt 235) ∈ lw_tbl := mj_tb_mem 8 (List.mem_of_getElem? (l := tables_1_8) (i := 91) rfl)
set_option maxRecDepth 20000 in
theorem mc_236 : mj_cw (mj_mt 236) ∈ lw_tbl := mj_tb_mem 8 (List.mem_of_getElem? (l := tables_1_8) (i := 95) rfl)
set_option maxRecDepth 20000 in
theorem mc_237 : mj_cw (mj_mt 237) ∈ lw_tbl := mj_tb_mem 8 (List.mem_of_getElem? (l := tables_1_8) (i := 99) rfl)
set_option maxRecDepth 20000 in
theorem mc_238 : mj_cw (mj_mt 238) ∈ lw_tbl := mj_tb_mem 8 (List.mem_of_getElem? (l := tables_1_8) (i := 103) rfl)
set_option maxRecDepth 20000 in
theorem mc_239 : mj_cw (mj_mt 239) ∈ lw_tbl := mj_tb_mem 8 (List.mem_of_getElem? (l := tables_1_8) (i := 107) rfl)
set_option maxRecDepth 20000 in
theorem mc_240 : mj_cw (mj_mt 240) ∈ lw_tbl := mj_tb_mem 8 (List.mem_of_getElem? (l := tables_1_8) (i := 111) rfl)
set_option maxRecDepth 20000 in
theorem mc_241 : mj_cw (mj_mt 241) ∈ lw_tbl := mj_tb_mem 8 (List.mem_of_getElem? (l := tables_1_8) (i := 115) rfl)
set_option maxRecDepth 20000 in
theorem mc_242 : mj_cw (mj_mt 242) ∈ lw_tbl := mj_tb_mem 8 (List.mem_of_getElem? (l := tables_1_8) (i := 120) rfl)
set_option maxRecDepth 20000 in
theorem mc_243 : mj_cw (mj_mt 243) ∈ lw_tbl := mj_tb_mem 8 (List.mem_of_getElem? (l := tables_1_8) (i := 124) rfl)
set_option maxRecDepth 20000 in
theorem mc_244 : mj_cw (mj_mt 244) ∈ lw_tbl := mj_tb_mem 8 (List.mem_of_getElem? (l := tables_1_8) (i := 128) rfl)
set_option maxRecDepth 20000 in
theorem mc_245 : mj_cw (mj_mt 245) ∈ lw_tbl := mj_tb_mem 8 (List.mem_of_getElem? (l := tables_1_8) (i := 132) rfl)
set_option maxRecDepth 20000 in
theorem mc_246 : mj_cw (mj_mt 246) ∈ lw_tbl := mj_tb_mem 8 (List.mem_of_getElem? (l := tables_1_8) (i := 136) rfl)
set_option maxRecDepth 20000 in
theorem mc_247 : mj_cw (mj_mt 247) ∈ lw_tbl := mj_tb_mem 8 (List.mem_of_getElem? (l := tables_1_8) (i := 140) rfl)
set_option maxRecDepth 20000 in
theorem mc_248 : mj_cw (mj_mt 248) ∈ lw_tbl := mj_tb_mem 8 (List.mem_of_getElem? (l := tables_1_8) (i := 144) rfl)
set_option maxRecDepth 20000 in
theorem mc_249 : mj_cw (mj_mt 249) ∈ lw_tbl := mj_tb_mem 8 (List.mem_of_getElem? (l := tables_1_8) (i := 148) rfl)
set_option maxRecDepth 20000 in
theorem mc_250 : mj_cw (mj_mt 250) ∈ lw_tbl := mj_tb_mem 8 (List.mem_of_getElem? (l := tables_1_8) (i := 152) rfl)
set_option maxRecDepth 20000 in
theorem mc_251 : mj_cw (mj_mt 251) ∈ lw_tbl := mj_tb_mem 8 (List.mem_of_getElem? (l := tables_1_8) (i := 156) rfl)
set_option maxRecDepth 20000 in
theorem mc_252 : mj_cw (mj_mt 252) ∈ lw_tbl := mj_tb_mem 8 (List.mem_of_getElem? (l := tables_1_8) (i := 160) rfl)
set_option maxRecDepth 20000 in
theorem mc_253 : mj_cw (mj_mt 253) ∈ lw_tbl := mj_tb_mem 8 (List.mem_of_getElem? (l := tables_1_8) (i := 164) rfl)
set_option maxRecDepth 20000 in
theorem mc_254 : mj_cw (mj_mt 254) ∈ lw_tbl := mj_tb_mem 8 (List.mem_of_getElem? (l := tables_1_8) (i := 168) rfl)
set_option maxRecDepth 20000 in
theorem mc_255 : mj_cw (mj_mt 255) ∈ lw_tbl := mj_tb_mem 8 (List.mem_of_getElem? (l := tables_1_8) (i := 172) rfl)
set_option maxRecDepth 20000 in
theorem mc_256 : mj_cw (mj_mt 256) ∈ lw_tbl := mj_tb_mem 8 (List.mem_of_getElem? (l := tables_1_8) (i := 176) rfl)
set_option maxRecDepth 20000 in
theorem mc_257 : mj_cw (mj_mt 257) ∈ lw_tbl := mj_tb_mem 8 (List.mem_of_getElem? (l := tables_1_8) (i := 180) rfl)
set_option maxRecDepth 20000 in
theorem mc_258 : mj_cw (mj_mt 258) ∈ lw_tbl := mj_tb_mem 8 (List.mem_of_getElem? (l := tables_1_8) (i := 184) rfl)
set_option maxRecDepth 20000 in
theorem mc_259 : mj_cw (mj_mt 259) ∈ lw_tbl := mj_tb_mem 8 (List.mem_of_getElem? (l := tables_1_8) (i := 188) rfl)
set_option maxRecDepth 20000 in
theorem mc_260 : mj_cw (mj_mt 260) ∈ lw_tbl := mj_tb_mem 8 (List.mem_of_getElem? (l := tables_1_8) (i := 194) rfl)
set_option maxRecDepth 20000 in
theorem mc_261 : mj_cw (mj_mt 261) ∈ lw_tbl := mj_tb_mem 8 (List.mem_of_getElem? (l := tables_1_8) (i := 199) rfl)
set_option maxRecDepth 20000 in
theorem mc_262 : mj_cw (mj_mt 262) ∈ lw_tbl := mj_tb_mem 8 (List.mem_of_getElem? (l := tables_1_8) (i := 203) rfl)
set_option maxRecDepth 20000 in
theorem mc_263 : mj_cw (mj_mt 263) ∈ lw_tbl := mj_tb_mem 8 (List.mem_of_getElem? (l := tables_1_8) (i := 207) rfl)
set_option maxRecDepth 20000 in
theorem mc_264 : mj_cw (mj_mt 264) ∈ lw_tbl := mj_tb_mem 8 (List.mem_of_getElem? (l := tables_1_8) (i := 211) rfl)
set_option maxRecDepth 20000 in
theorem mc_265 : mj_cw (mj_mt 265) ∈ lw_tbl := mj_tb_mem 8 (List.mem_of_getElem? (l := tables_1_8) (i := 215) rfl)
set_option maxRecDepth 20000 in
theorem mc_266 : mj_cw (mj_mt 266) ∈ lw_tbl := mj_tb_mem 8 (List.mem_of_getElem? (l := tables_1_8) (i := 219) rfl)
set_option maxRecDepth 20000 in
theorem mc_267 : mj_cw (mj_mt 267) ∈ lw_tbl := mj_tb_mem 8 (List.mem_of_getElem? (l := tables_1_8) (i := 223) rfl)
set_option maxRecDepth 20000 in
theorem mc_268 : mj_cw (mj_mt 268) ∈ lw_tbl := mj_tb_mem 8 (List.mem_of_getElem? (l := tables_1_8) (i := 227) rfl)
set_option maxRecDepth 20000 in
theorem mc_269 : mj_cw (mj_mt 269) ∈ lw_tbl := mj_tb_mem 8 (List.mem_of_getElem? (l := tables_1_8) (i := 231) rfl)
set_option maxRecDepth 20000 in
theorem mc_270 : mj_cw (mj_mt 270) ∈ lw_tbl := mj_tb_mem 8 (List.mem_of_getElem? (l := tables_1_8) (i := 235) rfl)
set_option maxRecDepth 20000 in
theorem mc_271 : mj_cw (mj_mt 271) ∈ lw_tbl := mj_tb_mem 8 (List.mem_of_getElem? (l := tables_1_8) (i := 239) rfl)
set_option maxRecDepth 20000 in
theorem mc_272 : mj_cw (mj_mt 272) ∈ lw_tbl := mj_tb_mem 9 (List.mem_of_getElem? (l := tables_1_9) (i := 3) rfl)
set_option maxRecDepth 20000 in
theorem mc_273 : mj_cw (mj_mt 273) ∈ lw_tbl := mj_tb_mem 9 (List.mem_of_getElem? (l := tables_1_9) (i := 7) rfl)
set_option maxRecDepth 20000 in
theorem mc_274 : mj_cw (mj_mt 274) ∈ lw_tbl := mj_tb_mem 9 (List.mem_of_getElem? (l := tables_1_9) (i := 11) rfl)
set_option maxRecDepth 20000 in
theorem mc_275 : mj_cw (mj_mt 275) ∈ lw_tbl := mj_tb_mem 9 (List.mem_of_getElem? (l := tables_1_9) (i := 15) rfl)
set_option maxRecDepth 20000 in
theorem mc_276 : mj_cw (mj_mt 276) ∈ lw_tbl := mj_tb_mem 9 (List.mem_of_getElem? (l := tables_1_9) (i := 19) rfl)
set_option maxRecDepth 20000 in
theorem mc_277 : mj_cw (mj_mt 277) ∈ lw_tbl := mj_tb_mem 9 (List.mem_of_getElem? (l := tables_1_9) (i := 23) rfl)
set_option maxRecDepth 20000 in
theorem mc_278 : mj_cw (mj_mt 278) ∈ lw_tbl := mj_tb_mem 9 (List.mem_of_getElem? (l := tables_1_9) (i := 27) rfl)
set_option maxRecDepth 20000 in
theorem mc_279 : mj_cw (mj_mt 279) ∈ lw_tbl := mj_tb_mem 9 (List.mem_of_getElem? (l := tables_1_9) (i := 31) rfl)
set_option maxRecDepth 20000 in
theorem mc_280 : mj_cw (mj_mt 280) ∈ lw_tbl := mj_tb_mem 9 (List.mem_of_getElem? (l := tables_1_9) (i := 35) rfl)
set_option maxRecDepth 20000 in
theorem mc_281 : mj_cw (mj_mt 281) ∈ lw_tbl := mj_tb_mem 9 (List.mem_of_getElem? (l := tables_1_9) (i := 39) rfl)
set_option maxRecDepth 20000 in
theorem mc_282 : mj_cw (mj_mt 282) ∈ lw_tbl := mj_tb_mem 9 (List.mem_of_getElem? (l := tables_1_9) (i := 43) rfl)
set_option maxRecDepth 20000 in
theorem mc_283 : mj_cw (mj_mt 283) ∈ lw_tbl := mj_tb_mem 9 (List.mem_of_getElem? (l := tables_1_9) (i := 47) rfl)
set_option maxRecDepth 20000 in
theorem mc_284 : mj_cw (mj_mt 284) ∈ lw_tbl := mj_tb_mem 9 (List.mem_of_getElem? (l := tables_1_9) (i := 51) rfl)
set_option maxRecDepth 20000 in
theorem mc_285 : mj_cw (mj_mt 285) ∈ lw_tbl := mj_tb_mem 9 (List.mem_of_getElem? (l := tables_1_9) (i := 55) rfl)
set_option maxRecDepth 20000 in
theorem mc_286 : mj_cw (mj_mt 286) ∈ lw_tbl := mj_tb_mem 9 (List.mem_of_getElem? (l := tables_1_9) (i := 60) rfl)
theorem mq_0 : ∀ j, 0 ≤ j → j < 16 → (j ≠ 1 ∧ j ≠ 35) → mj_cw (mj_mt j) ∈ lw_tbl ∧ mj_MB (mj_mt j) (mj_mh.getD j mj_hs0) = true := by
  have h : (List.range 16).all (fun k => (k + 0 == 1) || (k + 0 == 35) || mj_MB (mj_mt (k + 0)) (mj_mh.getD (k + 0) mj_hs0)) = true := by decide +kernel
  intro j h1 h2 h3
  have h4 := List.all_eq_true.mp h (j - 0) (List.mem_range.mpr (by omega))
  rw [show j - 0 + 0 = j by omega] at h4
  refine ⟨?_, by simpa [h3.1, h3.2] using h4⟩
  clear h4 h
  rcases (show j = 0 ∨ j = 2 ∨ j = 3 ∨ j = 4 ∨ j = 5 ∨ j = 6 ∨ j = 7 ∨ j = 8 ∨ j = 9 ∨ j = 10 ∨ j = 11 ∨ j = 12 ∨ j = 13 ∨ j = 14 ∨ j = 15 by omega) with rfl | rfl | rfl | rfl | rfl | rfl | rfl | rfl | rfl | rfl | rfl | rfl | rfl | rfl | rfl
  · exact mc_0
  · exact mc_2
  · exact mc_3
  · exact mc_4
  · exact mc_5
  · exact mc_6
  · exact mc_7
  · exact mc_8
  · exact mc_9
  · exact mc_10
  · exact mc_11
  · exact mc_12
  · exact mc_13
  · exact mc_14
  · exact mc_15
theorem mq_1 : ∀ j, 16 ≤ j → j < 32 → (j ≠ 1 ∧ j ≠ 35) → mj_cw (mj_mt j) ∈ lw_tbl ∧ mj_MB (mj_mt j) (mj_mh.getD j mj_hs0) = true := by
  have h : (List.range 16).all (fun k => (k + 16 == 1) || (k + 16 == 35) || mj_MB (mj_mt (k + 16)) (mj_mh.getD (k + 16) mj_hs0)) = true := by decide +kernel
  intro j h1 h2 h3
  have h4 := List.all_eq_true.mp h (j - 16) (List.mem_range.mpr (by omega))
  rw [show j - 16 + 16 = j by omega] at h4
  refine ⟨?_, by simpa [h3.1, h3.2] using h4⟩
  clear h4 h
  rcases (show j = 16 ∨ j = 17 ∨ j = 18 ∨ j = 19 ∨ j = 20 ∨ j = 21 ∨ j = 22 ∨ j = 23 ∨ j = 24 ∨ j = 25 ∨ j = 26 ∨ j = 27 ∨ j = 28 ∨ j = 29 ∨ j = 30 ∨ j = 31 by omega) with rfl | rfl | rfl | rfl | rfl | rfl | rfl | rfl | rfl | rfl | rfl | rfl | rfl | rfl | rfl | rfl
  · exact mc_16
  · exact mc_17
  · exact mc_18
  · exact mc_19
  · exact mc_20
  · exact mc_21
  · exact mc_22
  · exact mc_23
  · exact mc_24
  · exact mc_25
  · exact mc_26
  · exact mc_27
  · exact mc_28
  · exact mc_29
  · exact mc_30
  · exact mc_31
theorem mq_2 : ∀ j, 32 ≤ j → j < 48 → (j ≠ 1 ∧ j ≠ 35) → mj_cw (mj_mt j) ∈ lw_tbl ∧ mj_MB (mj_mt j) (mj_mh.getD j mj_hs0) = true := by
  have h : (List.range 16).all (fun k => (k + 32 == 1) || (k + 32 == 35) || mj_MB (mj_mt (k + 32)) (mj_mh.getD (k + 32) mj_hs0)) = true := by decide +kernel
  intro j h1 h2 h3
  have h4 := List.all_eq_true.mp h (j - 32) (List.mem_range.mpr (by omega))
  rw [show j - 32 + 32 = j by omega] at h4
  refine ⟨?_, by simpa [h3.1, h3.2] using h4⟩
  clear h4 h
  rcases (show j = 32 ∨ j = 33 ∨ j = 34 ∨ j = 36 ∨ j = 37 ∨ j = 38 ∨ j = 39 ∨ j = 40 ∨ j = 41 ∨ j = 42 ∨ j = 43 ∨ j = 44 ∨ j = 45 ∨ j = 46 ∨ j = 47 by omega) with rfl | rfl | rfl | rfl | rfl | rfl | rfl | rfl | rfl | rfl | rfl | rfl | rfl | rfl | rfl
  · exact mc_32
  · exact mc_33
  · exact mc_34
  · exact mc_36
  · exact mc_37
  · exact mc_38
  · exact mc_39
  · exact mc_40
  · exact mc_41
  · exact mc_42
  · exact mc_43
  · exact mc_44
  · exact mc_45
  · exact mc_46
  · exact mc_47
theorem mq_3 : ∀ j, 48 ≤ j → j < 64 → (j ≠ 1 ∧ j ≠ 35) → mj_cw (mj_mt j) ∈ lw_tbl ∧ mj_MB (mj_mt j) (mj_mh.getD j mj_hs0) = true := by
  have h : (List.range 16).all (fun k => (k + 48 == 1) || (k + 48 == 35) || mj_MB (mj_mt (k + 48)) (mj_mh.getD (k + 48) mj_hs0)) = true := by decide +kernel
  intro j h1 h2 h3
  have h4 := List.all_eq_true.mp h (j - 48) (List.mem_range.mpr (by omega))
  rw [show j - 48 + 48 = j by omega] at h4
  refine ⟨?_, by simpa [h3.1, h3.2] using h4⟩
  clear h4 h
  rcases (show j = 48 ∨ j = 49 ∨ j = 50 ∨ j = 51 ∨ j = 52 ∨ j = 53 ∨ j = 54 ∨ j = 55 ∨ j = 56 ∨ j = 57 ∨ j = 58 ∨ j = 59 ∨ j = 60 ∨ j = 61 ∨ j = 62 ∨ j = 63 by omega) with rfl | rfl | rfl | rfl | rfl | rfl | rfl | rfl | rfl | rfl | rfl | rfl | rfl | rfl | rfl | rfl
  · exact mc_48
  · exact mc_49
  · exact mc_50
  · exact mc_51
  · exact mc_52
  · exact mc_53
  · exact mc_54
  · exact mc_55
  · exact mc_56
  · exact mc_57
  · exact mc_58
  · exact mc_59
  · exact mc_60
  · exact mc_61
  · exact mc_62
  · exact mc_63
theorem mq_4 : ∀ j, 64 ≤ j → j < 80 → (j ≠ 1 ∧ j ≠ 35) → mj_cw (mj_mt j) ∈ lw_tbl ∧ mj_MB (mj_mt j) (mj_mh.getD j mj_hs0) = true := by
  have h : (List.range 16).all (fun k => (k + 64 == 1) || (k + 64 == 35) || mj_MB (mj_mt (k + 64)) (mj_mh.getD (k + 64) mj_hs0)) = true := by decide +kernel
  intro j h1 h2 h3
  have h4 := List.all_eq_true.mp h (j - 64) (List.mem_range.mpr (by omega))
  rw [show j - 64 + 64 = j by omega] at h4
  refine ⟨?_, by simpa [h3.1, h3.2] using h4⟩
  clear h4 h
  rcases (show j = 64 ∨ j = 65 ∨ j = 66 ∨ j = 67 ∨ j = 68 ∨ j = 69 ∨ j = 70 ∨ j = 71 ∨ j = 72 ∨ j = 73 ∨ j = 74 ∨ j = 75 ∨ j = 76 ∨ j = 77 ∨ j = 78 ∨ j = 79 by omega) with rfl | rfl | rfl | rfl | rfl | rfl | rfl | rfl | rfl | rfl | rfl | rfl | rfl | rfl | rfl | rfl
  · exact mc_64
  · exact mc_65
  · exact mc_66
  · exact mc_67
  · exact mc_68
  · exact mc_69
  · exact mc_70
  · exact mc_71
  · exact mc_72
  · exact mc_73
  · exact mc_74
  · exact mc_75
  · exact mc_76
  · exact mc_77
  · exact mc_78
  · exact mc_79
theorem mq_5 : ∀ j, 80 ≤ j → j < 96 → (j ≠ 1 ∧ j ≠ 35) → mj_cw (mj_mt j) ∈ lw_tbl ∧ mj_MB (mj_mt j) (mj_mh.getD j mj_hs0) = true := by
  have h : (List.range 16).all (fun k => (k + 80 == 1) || (k + 80 == 35) || mj_MB (mj_mt (k + 80)) (mj_mh.getD (k + 80) mj_hs0)) = true := by decide +kernel
  intro j h1 h2 h3
  have h4 := List.all_eq_true.mp h (j - 80) (List.mem_range.mpr (by omega))
  rw [show j - 80 + 80 = j by omega] at h4
  refine ⟨?_, by simpa [h3.1, h3.2] using h4⟩
  clear h4 h
  rcases (show j = 80 ∨ j = 81 ∨ j = 82 ∨ j = 83 ∨ j = 84 ∨ j = 85 ∨ j = 86 ∨ j = 87 ∨ j = 88 ∨ j = 89 ∨ j = 90 ∨ j = 91 ∨ j = 92 ∨ j = 93 ∨ j = 94 ∨ j = 95 by omega) with rfl | rfl | rfl | rfl | rfl | rfl | rfl | rfl | rfl | rfl | rfl | rfl | rfl | rfl | rfl | rfl
  · exact mc_80
  · exact mc_81
  · exact mc_82
  · exact mc_83
  · exact mc_84
  · exact mc_85
  · exact mc_86
  · exact mc_87
  · exact mc_88
  · exact mc_89
  · exact mc_90
  · exact mc_91
  · exact mc_92
  · exact mc_93
  · exact mc_94
  · exact mc_95
theorem mq_6 : ∀ j, 96 ≤ j → j < 112 → (j ≠ 1 ∧ j ≠ 35) → mj_cw (mj_mt j) ∈ lw_tbl ∧ mj_MB (mj_mt j) (mj_mh.getD j mj_hs0) = true := by
  have h : (List.range 16).all (fun k => (k + 96 == 1) || (k + 96 == 35) || mj_MB (mj_mt (k + 96)) (mj_mh.getD (k + 96) mj_hs0)) = true := by decide +kernel
  intro j h1 h2 h3
  have h4 := List.all_eq_true.mp h (j - 96) (List.mem_range.mpr (by omega))
  rw [show j - 96 + 96 = j by omega] at h4
  refine ⟨?_, by simpa [h3.1, h3.2] using h4⟩
  clear h4 h
  rcases (show j = 96 ∨ j = 97 ∨ j = 98 ∨ j = 99 ∨ j = 100 ∨ j = 101 ∨ j = 102 ∨ j = 103 ∨ j = 104 ∨ j = 105 ∨ j = 106 ∨ j = 107 ∨ j = 108 ∨ j = 109 ∨ j = 110 ∨ j = 111 by omega) with rfl | rfl | rfl | rfl | rfl | rfl | rfl | rfl | rfl | rfl | rfl | rfl | rfl | rfl | rfl | rfl
  · exact mc_96
  · exact mc_97
  · exact mc_98
  · exact mc_99
  · exact mc_100
  · exact mc_101
  · exact mc_102
  · exact mc_103
  · exact mc_104
  · exact mc_105
  · exact mc_106
  · exact mc_107
  · exact mc_108
  · exact mc_109
  · exact mc_110
  · exact mc_111
theorem mq_7 : ∀ j, 112 ≤ j → j < 128 → (j ≠ 1 ∧ j ≠ 35) → mj_cw (mj_mt j) ∈ lw_tbl ∧ mj_MB (mj_mt j) (mj_mh.getD j mj_hs0) = true := by
  have h : (List.range 16).all (fun k => (k + 112 == 1) || (k + 112 == 35) || mj_MB (mj_mt (k + 112)) (mj_mh.getD (k + 112) mj_hs0)) = true := by decide +kernel
  intro j h1 h2 h3
  have h4 := List.all_eq_true.mp h (j - 112) (List.mem_range.mpr (by omega))
  rw [show j - 112 + 112 = j by omega] at h4
  refine ⟨?_, by simpa [h3.1, h3.2] using h4⟩
  clear h4 h
  rcases (show j = 112 ∨ j = 113 ∨ j = 114 ∨ j = 115 ∨ j = 116 ∨ j = 117 ∨ j = 118 ∨ j = 119 ∨ j = 120 ∨ j = 121 ∨ j = 122 ∨ j = 123 ∨ j = 124 ∨ j = 125 ∨ j = 126 ∨ j = 127 by omega) with rfl | rfl | rfl | rfl | rfl | rfl | rfl | rfl | rfl | rfl | rfl | rfl | rfl | rfl | rfl | rfl
  · exact mc_112
  · exact mc_113
  · exact mc_114
  · exact mc_115
  · exact mc_116
  · exact mc_117
  · exact mc_118
  · exact mc_119
  · exact mc_120
  · exact mc_121
  · exact mc_122
  · exact mc_123
  · exact mc_124
  · exact mc_125
  · exact mc_126
  · exact mc_127
theorem mq_8 : ∀ j, 128 ≤ j → j < 144 → (j ≠ 1 ∧ j ≠ 35) → mj_cw (mj_mt j) ∈ lw_tbl ∧ mj_MB (mj_mt j) (mj_mh.getD j mj_hs0) = true := by
  have h : (List.range 16).all (fun k => (k + 128 == 1) || (k + 128 == 35) || mj_MB (mj_mt (k + 128)) (mj_mh.getD (k + 128) mj_hs0)) = true := by decide +kernel
  intro j h1 h2 h3
  have h4 := List.all_eq_true.mp h (j - 128) (List.mem_range.mpr (by omega))
  rw [show j - 128 + 128 = j by omega] at h4
  refine ⟨?_, by simpa [h3.1, h3.2] using h4⟩
  clear h4 h
  rcases (show j = 128 ∨ j = 129 ∨ j = 130 ∨ j = 131 ∨ j = 132 ∨ j = 133 ∨ j = 134 ∨ j = 135 ∨ j = 136 ∨ j = 137 ∨ j = 138 ∨ j = 139 ∨ j = 140 ∨ j = 141 ∨ j = 142 ∨ j = 143 by omega) with rfl | rfl | rfl | rfl | rfl | rfl | rfl | rfl | rfl | rfl | rfl | rfl | rfl | rfl | rfl | rfl
  · exact mc_128
  · exact mc_129
  · exact mc_130
  · exact mc_131
  · exact mc_132
  · exact mc_133
  · exact mc_134
  · exact mc_135
  · exact mc_136
  · exact mc_137
  · exact mc_138
  · exact mc_139
  · exact mc_140
  · exact mc_141
  · exact mc_142
  · exact mc_143
theorem mq_9 : ∀ j, 144 ≤ j → j < 160 → (j ≠ 1 ∧ j ≠ 35) → mj_cw (mj_mt j) ∈ lw_tbl ∧ mj_MB (mj_mt j) (mj_mh.getD j mj_hs0) = true := by
  have h : (List.range 16).all (fun k => (k + 144 == 1) || (k + 144 == 35) || mj_MB (mj_mt (k + 144)) (mj_mh.getD (k + 144) mj_hs0)) = true := by decide +kernel
  intro j h1 h2 h3
  have h4 := List.all_eq_true.mp h (j - 144) (List.mem_range.mpr (by omega))
  rw [show j - 144 + 144 = j by omega] at h4
  refine ⟨?_, by simpa [h3.1, h3.2] using h4⟩
  clear h4 h
  rcases (show j = 144 ∨ j = 145 ∨ j = 146 ∨ j = 147 ∨ j = 148 ∨ j = 149 ∨ j = 150 ∨ j = 151 ∨ j = 152 ∨ j = 153 ∨ j = 154 ∨ j = 155 ∨ j = 156 ∨ j = 157 ∨ j = 158 ∨ j = 159 by omega) with rfl | rfl | rfl | rfl | rfl | rfl | rfl | rfl | rfl | rfl | rfl | rfl | rfl | rfl | rfl | rfl
  · exact mc_144
  · exact mc_145
  · exact mc_146
  · exact mc_147
  · exact mc_148
  · exact mc_149
  · exact mc_150
  · exact mc_151
  · exact mc_152
  · exact mc_153
  · exact mc_154
  · exact mc_155
  · exact mc_156
  · exact mc_157
  · exact mc_158
  · exact mc_159
theorem mq_10 : ∀ j, 160 ≤ j → j < 176 → (j ≠ 1 ∧ j ≠ 35) → mj_cw (mj_mt j) ∈ lw_tbl ∧ mj_MB (mj_mt j) (mj_mh.getD j mj_hs0) = true := by
  have h : (List.range 16).all (fun k => (k + 160 == 1) || (k + 160 == 35) || mj_MB (mj_mt (k + 160)) (mj_mh.getD (k + 160) mj_hs0)) = true := by decide +kernel
  intro j h1 h2 h3
  have h4 := List.all_eq_true.mp h (j - 160) (List.mem_range.mpr (by omega))
  rw [show j - 160 + 160 = j by omega] at h4
  refine ⟨?_, by simpa [h3.1, h3.2] using h4⟩
  clear h4 h
  rcases (show j = 160 ∨ j = 161 ∨ j = 162 ∨ j = 163 ∨ j = 164 ∨ j = 165 ∨ j = 166 ∨ j = 167 ∨ j = 168 ∨ j = 169 ∨ j = 170 ∨ j = 171 ∨ j = 172 ∨ j = 173 ∨ j = 174 ∨ j = 175 by omega) with rfl | rfl | rfl | rfl | rfl | rfl | rfl | rfl | rfl | rfl | rfl | rfl | rfl | rfl | rfl | rfl
  · exact mc_160
  · exact mc_161
  · exact mc_162
  · exact mc_163
  · exact mc_164
  · exact mc_165
  · exact mc_166
  · exact mc_167
  · exact mc_168
  · exact mc_169
  · exact mc_170
  · exact mc_171
  · exact mc_172
  · exact mc_173
  · exact mc_174
  · exact mc_175
theorem mq_11 : ∀ j, 176 ≤ j → j < 192 → (j ≠ 1 ∧ j ≠ 35) → mj_cw (mj_mt j) ∈ lw_tbl ∧ mj_MB (mj_mt j) (mj_mh.getD j mj_hs0) = true := by
  have h : (List.range 16).all (fun k => (k + 176 == 1) || (k + 176 == 35) || mj_MB (mj_mt (k + 176)) (mj_mh.getD (k + 176) mj_hs0)) = true := by decide +kernel
  intro j h1 h2 h3
  have h4 := List.all_eq_true.mp h (j - 176) (List.mem_range.mpr (by omega))
  rw [show j - 176 + 176 = j by omega] at h4
  refine ⟨?_, by simpa [h3.1, h3.2] using h4⟩
  clear h4 h
  rcases (show j = 176 ∨ j = 177 ∨ j = 178 ∨ j = 179 ∨ j = 180 ∨ j = 181 ∨ j = 182 ∨ j = 183 ∨ j = 184 ∨ j = 185 ∨ j = 186 ∨ j = 187 ∨ j = 188 ∨ j = 189 ∨ j = 190 ∨ j = 191 by omega) with rfl | rfl | rfl | rfl | rfl | rfl | rfl | rfl | rfl | rfl | rfl | rfl | rfl | rfl | rfl | rfl
  · exact mc_176
  · exact mc_177
  · exact mc_178
  · exact mc_179
  · exact mc_180
  · exact mc_181
  · exact mc_182
  · exact mc_183
  · exact mc_184
  · exact mc_185
  · exact mc_186
  · exact mc_187
  · exact mc_188
  · exact mc_189
  · exact mc_190
  · exact mc_191
theorem mq_12 : ∀ j, 192 ≤ j → j < 208 → (j ≠ 1 ∧ j ≠ 35) → mj_cw (mj_mt j) ∈ lw_tbl ∧ mj_MB (mj_mt j) (mj_mh.getD j mj_hs0) = true := by
  have h : (List.range 16).all (fun k => (k + 192 == 1) || (k + 192 == 35) || mj_MB (mj_mt (k + 192)) (mj_mh.getD (k + 192) mj_hs0)) = true := by decide +kernel
  intro j h1 h2 h3
  have h4 := List.all_eq_true.mp h (j - 192) (List.mem_range.mpr (by omega))
  rw [show j - 192 + 192 = j by omega] at h4
  refine ⟨?_, by simpa [h3.1, h3.2] using h4⟩
  clear h4 h
  rcases (show j = 192 ∨ j = 193 ∨ j = 194 ∨ j = 195 ∨ j = 196 ∨ j = 197 ∨ j = 198 ∨ j = 199 ∨ j = 200 ∨ j = 201 ∨ j = 202 ∨ j = 203 ∨ j = 204 ∨ j = 205 ∨ j = 206 ∨ j = 207 by omega) with rfl | rfl | rfl | rfl | rfl | rfl | rfl | rfl | rfl | rfl | rfl | rfl | rfl | rfl | rfl | rfl
  · exact mc_192
  · exact mc_193
  · exact mc_194
  · exact mc_195
  · exact mc_196
  · exact mc_197
  · exact mc_198
  · exact mc_199
  · exact mc_200
  · exact mc_201
  · exact mc_202
  · exact mc_203
  · exact mc_204
  · exact mc_205
  · exact mc_206
  · exact mc_207
theorem mq_13 : ∀ j, 208 ≤ j → j < 224 → (j ≠ 1 ∧ j ≠ 35) → mj_cw (mj_mt j) ∈ lw_tbl ∧ mj_MB (mj_mt j) (mj_mh.getD j mj_hs0) = true := by
  have h : (List.range 16).all (fun k => (k + 208 == 1) || (k + 208 == 35) || mj_MB (mj_mt (k + 208)) (mj_mh.getD (k + 208) mj_hs0)) = true := by decide +kernel
  intro j h1 h2 h3
  have h4 := List.all_eq_true.mp h (j - 208) (List.mem_range.mpr (by omega))
  rw [show j - 208 + 208 = j by omega] at h4
  refine ⟨?_, by simpa [h3.1, h3.2] using h4⟩
  clear h4 h
  rcases (show j = 208 ∨ j = 209 ∨ j = 210 ∨ j = 211 ∨ j = 212 ∨ j = 213 ∨ j = 214 ∨ j = 215 ∨ j = 216 ∨ j = 217 ∨ j = 218 ∨ j = 219 ∨ j = 220 ∨ j = 221 ∨ j = 222 ∨ j = 223 by omega) with rfl | rfl | rfl | rfl | rfl | rfl | rfl | rfl | rfl | rfl | rfl | rfl | rfl | rfl | rfl | rfl
  · exact mc_208
  · exact mc_209
  · exact mc_210
  · exact mc_211
  · exact mc_212
  · exact mc_213
  · exact mc_214
  · exact mc_215
  · exact mc_216
  · exact mc_217
  · exact mc_218
  · exact mc_219
  · exact mc_220
  · exact mc_221
  · exact mc_222
  · exact mc_223
theorem mq_14 : ∀ j, 224 ≤ j → j < 240 → (j ≠ 1 ∧ j ≠ 35) → mj_cw (mj_mt j) ∈ lw_tbl ∧ mj_MB (mj_mt j) (mj_mh.getD j mj_hs0) = true := by
  have h : (List.range 16).all (fun k => (k + 224 == 1) || (k + 224 == 35) || mj_MB (mj_mt (k + 224)) (mj_mh.getD (k + 224) mj_hs0)) = true := by decide +kernel
  intro j h1 h2 h3
  have h4 := List.all_eq_true.mp h (j - 224) (List.mem_range.mpr (by omega))
  rw [show j - 224 + 224 = j by omega] at h4
  refine ⟨?_, by simpa [h3.1, h3.2] using h4⟩
  clear h4 h
  rcases (show j = 224 ∨ j = 225 ∨ j = 226 ∨ j = 227 ∨ j = 228 ∨ j = 229 ∨ j = 230 ∨ j = 231 ∨ j = 232 ∨ j = 233 ∨ j = 234 ∨ j = 235 ∨ j = 236 ∨ j = 237 ∨ j = 238 ∨ j = 239 by omega) with rfl | rfl | rfl | rfl | rfl | rfl | rfl | rfl | rfl | rfl | rfl | rfl | rfl | rfl | rfl | rfl
  · exact mc_224
  · exact mc_225
  · exact mc_226
  · exact mc_227
  · exact mc_228
  · exact mc_229
  · exact mc_230
  · exact mc_231
  · exact mc_232
  · exact mc_233
  · exact mc_234
  · exact mc_235
  · exact mc_236
  · exact mc_237
  · exact mc_238
  · exact mc_239
theorem mq_15 : ∀ j, 240 ≤ j → j < 256 → (j ≠ 1 ∧ j ≠ 35) → mj_cw (mj_mt j) ∈ lw_tbl ∧ mj_MB (mj_mt j) (mj_mh.getD j mj_hs0) = true := by
  have h : (List.range 16).all (fun k => (k + 240 == 1) || (k + 240 == 35) || mj_MB (mj_mt (k + 240)) (mj_mh.getD (k + 240) mj_hs0)) = true := by decide +kernel
  intro j h1 h2 h3
  have h4 := List.all_eq_true.mp h (j - 240) (List.mem_range.mpr (by omega))
  rw [show j - 240 + 240 = j by omega] at h4
  refine ⟨?_, by simpa [h3.1, h3.2] using h4⟩
  clear h4 h
  rcases (show j = 240 ∨ j = 241 ∨ j = 242 ∨ j = 243 ∨ j = 244 ∨ j = 245 ∨ j = 246 ∨ j = 247 ∨ j = 248 ∨ j = 249 ∨ j = 250 ∨ j = 251 ∨ j = 252 ∨ j = 253 ∨ j = 254 ∨ j = 255 by omega) with rfl | rfl | rfl | rfl | rfl | rfl | rfl | rfl | rfl | rfl | rfl | rfl | rfl | rfl | rfl | rfl
  · exact mc_240
  · exact mc_241
  · exact mc_242
  · exact mc_243
  · exact mc_244
  · exact mc_245
  · exact mc_246
  · exact mc_247
  · exact mc_248
  · exact mc_249
  · exact mc_250
  · exact mc_251
  · exact mc_252
  · exact mc_253
  · exact mc_254
  · exact mc_255
theorem mq_16 : ∀ j, 256 ≤ j → j < 272 → (j ≠ 1 ∧ j ≠ 35) → mj_cw (mj_mt j) ∈ lw_tbl ∧ mj_MB (mj_mt j) (mj_mh.getD j mj_hs0) = true := by
  have h : (List.range 16).all (fun k => (k + 256 == 1) || (k + 256 == 35) || mj_MB (mj_mt (k + 256)) (mj_mh.getD (k + 256) mj_hs0)) = true := by decide +kernel
  intro j h1 h2 h3
  have h4 := List.all_eq_true.mp h (j - 256) (List.mem_range.mpr (by omega))
  rw [show j - 256 + 256 = j by omega] at h4
  refine ⟨?_, by simpa [h3.1, h3.2] using h4⟩
  clear h4 h
  rcases (show j = 256 ∨ j = 257 ∨ j = 258 ∨ j = 259 ∨ j = 260 ∨ j = 261 ∨ j = 262 ∨ j = 263 ∨ j = 264 ∨ j = 265 ∨ j = 266 ∨ j = 267 ∨ j = 268 ∨ j = 269 ∨ j = 270 ∨ j = 271 by omega) with rfl | rfl | rfl | rfl | rfl | rfl | rfl | rfl | rfl | rfl | rfl | rfl | rfl | rfl | rfl | rfl
  · exact mc_256
  · exact mc_257
  · exact mc_258
  · exact mc_259
  · exact mc_260
  · exact mc_261
  · exact mc_262
  · exact mc_263
  · exact mc_264
  · exact mc_265
  · exact mc_266
  · exact mc_267
  · exact mc_268
  · exact mc_269
  · exact mc_270
  · exact mc_271
theorem mq_17 : ∀ j, 272 ≤ j → j < 287 → (j ≠ 1 ∧ j ≠ 35) → mj_cw (mj_mt j) ∈ lw_tbl ∧ mj_MB (mj_mt j) (mj_mh.getD j mj_hs0) = true := by
  have h : (List.range 15).all (fun k => (k + 272 == 1) || (k + 272 == 35) || mj_MB (mj_mt (k + 272)) (mj_mh.getD (k + 272) mj_hs0)) = true := by decide +kernel
  intro j h1 h2 h3
  have h4 := List.all_eq_true.mp h (j - 272) (List.mem_range.mpr (by omega))
  rw [show j - 272 + 272 = j by omega] at h4
  refine ⟨?_, by simpa [h3.1, h3.2] using h4⟩
  clear h4 h
  rcases (show j = 272 ∨ j = 273 ∨ j = 274 ∨ j = 275 ∨ j = 276 ∨ j = 277 ∨ j = 278 ∨ j = 279 ∨ j = 280 ∨ j = 281 ∨ j = 282 ∨ j = 283 ∨ j = 284 ∨ j = 285 ∨ j = 286 by omega) with rfl | rfl | rfl | rfl | rfl | rfl | rfl | rfl | rfl | rfl | rfl | rfl | rfl | rfl | rfl
  · exact mc_272
  · exact mc_273
  · exact mc_274
  · exact mc_275
  · exact mc_276
  · exact mc_277
  · exact mc_278
  · exact mc_279
  · exact mc_280
  · exact mc_281
  · exact mc_282
  · exact mc_283
  · exact mc_284
  · exact mc_285
  · exact mc_286
theorem mj_ok : mj_mok mj_mh := by
  intro j hj
  by_cases h0 : j < 16
  · exact mq_0 j (by omega) h0 hj.2
  by_cases h1 : j < 32
  · exact mq_1 j (by omega) h1 hj.2
  by_cases h2 : j < 48
  · exact mq_2 j (by omega) h2 hj.2
  by_cases h3 : j < 64
  · exact mq_3 j (by omega) h3 hj.2
  by_cases h4 : j < 80
  · exact mq_4 j (by omega) h4 hj.2
  by_cases h5 : j < 96
  · exact mq_5 j (by omega) h5 hj.2
  by_cases h6 : j < 112
  · exact mq_6 j (by omega) h6 hj.2
  by_cases h7 : j < 128
  · exact mq_7 j (by omega) h7 hj.2
  by_cases h8 : j < 144
  · exact mq_8 j (by omega) h8 hj.2
  by_cases h9 : j < 160
  · exact mq_9 j (by omega) h9 hj.2
  by_cases h10 : j < 176
  · exact mq_10 j (by omega) h10 hj.2
  by_cases h11 : j < 192
  · exact mq_11 j (by omega) h11 hj.2
  by_cases h12 : j < 208
  · exact mq_12 j (by omega) h12 hj.2
  by_cases h13 : j < 224
  · exact mq_13 j (by omega) h13 hj.2
  by_cases h14 : j < 240
  · exact mq_14 j (by omega) h14 hj.2
  by_cases h15 : j < 256
  · exact mq_15 j (by omega) h15 hj.2
  by_cases h16 : j < 272
  · exact mq_16 j (by omega) h16 hj.2
  exact mq_17 j (by omega) (by omega) hj.2
