/-! the class side: words of its methods, contracts and call rows of the virtual ones (printed by tools/virt.py) -/
set_option maxRecDepth 100000
theorem mw_X7_init : nd_MW yX7_init cX7_init 1 none 0 := ⟨q422, q92, by decide, by decide, by decide +kernel⟩
theorem mw_X10_init : nd_MW yX10_init cX10_init 1 none 0 := ⟨q472, q95, by decide, by decide, by decide +kernel⟩
theorem mw_X12_init : nd_MW yX12_init cX12_init 1 none 0 := ⟨q568, q97, by decide, by decide, by decide +kernel⟩
theorem mw_X12_isChoice : nd_MW yX12_isChoice cX12_isChoice 1 (some .boolean) 0 := ⟨q665, q97, by decide, by decide, by decide +kernel⟩
theorem mw_X12_tags : nd_MW yX12_tags cX12_tags 3 (some .int) 0 := ⟨q545, q97, by decide, by decide, by decide +kernel⟩
theorem mw_X11_tags : nd_MW yX11_tags cX11_tags 1 (some .int) 0 := ⟨q550, q96, by decide, by decide, by decide +kernel⟩
theorem mw_X15_tags : nd_MW yX15_tags cX15_tags 1 (some .int) 0 := ⟨q553, q100, by decide, by decide, by decide +kernel⟩
theorem mw_X8_tags : nd_MW yX8_tags cX8_tags 1 (some .int) 0 := ⟨q548, q93, by decide, by decide, by decide +kernel⟩
theorem mw_X16_tags : nd_MW yX16_tags cX16_tags 1 (some .int) 0 := ⟨q556, q101, by decide, by decide, by decide +kernel⟩
theorem mw_X12_isDistinct : nd_MW yX12_isDistinct cX12_isDistinct 3 (some .boolean) 0 := ⟨q579, q97, by decide, by decide, by decide +kernel⟩
theorem mw_X12_least : nd_MW yX12_least cX12_least 1 (some .int) 1 := ⟨q895, q97, by decide, by decide, by decide +kernel⟩
theorem mw_X12_rank : nd_MW yX12_rank cX12_rank 4 (some .int) 1 := ⟨q892, q97, by decide, by decide, by decide +kernel⟩
theorem mw_X5_size : nd_MW yX5_size cX5_size 1 (some .int) 0 := ⟨q1237, q90, by decide, by decide, by decide +kernel⟩
theorem mw_X5_align : nd_MW yX5_align cX5_align 1 none 0 := ⟨q1233, q90, by decide, by decide, by decide +kernel⟩
theorem mw_X5_put : nd_MW yX5_put cX5_put 4 none 2 := ⟨q1142, q90, by decide, by decide, by decide +kernel⟩
theorem mw_X1_width : nd_MW yX1_width cX1_width 2 (some .int) 1 := ⟨q884, q86, by decide, by decide, by decide +kernel⟩
theorem mw_X5_putNumber : nd_MW yX5_putNumber cX5_putNumber 5 none 3 := ⟨q1229, q90, by decide, by decide, by decide +kernel⟩
theorem mw_X12_pack : nd_MW yX12_pack cX12_pack 3 none 2 := ⟨q1225, q97, by decide, by decide, by decide +kernel⟩
theorem mw_X17_add : nd_MW yX17_add cX17_add 3 none 2 := ⟨q1012, q111, by decide, by decide, by decide +kernel⟩
theorem mw_X12_with : nd_MW yX12_with cX12_with 2 (some (.object "NotationDesk$Part")) 2 := ⟨q1033, q97, by decide, by decide, by decide +kernel⟩
theorem mw_X4_tag : nd_MW yX4_tag cX4_tag 3 (some .int) 0 := ⟨q1049, q89, by decide, by decide, by decide +kernel⟩
theorem mw_X17_init : nd_MW yX17_init cX17_init 1 none 0 := ⟨q903, q111, by decide, by decide, by decide +kernel⟩
theorem mw_X3_make : nd_MW yX3_make cX3_make 4 (some (.object "NotationDesk$Part")) 2 := ⟨q899, q88, by decide, by decide, by decide +kernel⟩
theorem mw_X12_read : nd_MW yX12_read cX12_read 5 (some (.object "NotationDesk$Part")) 2 := ⟨q1045, q97, by decide, by decide, by decide +kernel⟩
theorem mw_X12_size : nd_MW yX12_size cX12_size 2 (some .int) 1 := ⟨q1178, q97, by decide, by decide, by decide +kernel⟩
theorem mw_X4_isThere : nd_MW yX4_isThere cX4_isThere 1 (some .boolean) 0 := ⟨q888, q89, by decide, by decide, by decide +kernel⟩
theorem mw_X4_align : nd_MW yX4_align cX4_align 1 none 0 := ⟨q877, q89, by decide, by decide, by decide +kernel⟩
theorem mw_X4_take : nd_MW yX4_take cX4_take 5 (some .int) 1 := ⟨q881, q89, by decide, by decide, by decide +kernel⟩
theorem mw_X4_takeNumber : nd_MW yX4_takeNumber cX4_takeNumber 4 (some .int) 2 := ⟨q873, q89, by decide, by decide, by decide +kernel⟩
theorem mw_X12_unpack : nd_MW yX12_unpack cX12_unpack 4 (some (.object "NotationDesk$Part")) 1 := ⟨q869, q97, by decide, by decide, by decide +kernel⟩
theorem mw_X12_write : nd_MW yX12_write cX12_write 4 none 3 := ⟨q1118, q97, by decide, by decide, by decide +kernel⟩
theorem mw_X2_init : nd_MW yX2_init cX2_init 1 none 0 := ⟨q125, q87, by decide, by decide, by decide +kernel⟩
theorem mw_X2_look : nd_MW yX2_look cX2_look 1 (some .int) 0 := ⟨q356, q87, by decide, by decide, by decide +kernel⟩
theorem mw_X2_wrong : nd_MW yX2_wrong cX2_wrong 3 (some .boolean) 2 := ⟨q360, q87, by decide, by decide, by decide +kernel⟩
theorem mw_X2_another : nd_MW yX2_another cX2_another 2 (some .boolean) 1 := ⟨q535, q87, by decide, by decide, by decide +kernel⟩
theorem mw_X2_expect : nd_MW yX2_expect cX2_expect 2 (some .boolean) 1 := ⟨q364, q87, by decide, by decide, by decide +kernel⟩
theorem mw_X2_noType : nd_MW yX2_noType cX2_noType 3 (some (.object "NotationDesk$Type")) 2 := ⟨q385, q87, by decide, by decide, by decide +kernel⟩
theorem mw_X10_put : nd_MW yX10_put cX10_put 2 none 1 := ⟨q531, q95, by decide, by decide, by decide +kernel⟩
theorem mw_X2_choiceOf : nd_MW yX2_choiceOf cX2_choiceOf 6 (some (.object "NotationDesk$Type")) 3 := ⟨q564, q87, by decide, by decide, by decide +kernel⟩
theorem mw_X1_isDigit : nd_MW yX1_isDigit cX1_isDigit 1 (some .boolean) 1 := ⟨q374, q86, by decide, by decide, by decide +kernel⟩
theorem mw_X2_number : nd_MW yX2_number cX2_number 4 (some .boolean) 0 := ⟨q461, q87, by decide, by decide, by decide +kernel⟩
theorem mw_X2_bounds : nd_MW yX2_bounds cX2_bounds 2 (some .boolean) 0 := ⟨q457, q87, by decide, by decide, by decide +kernel⟩
theorem mw_X8_init : nd_MW yX8_init cX8_init 1 none 0 := ⟨q419, q93, by decide, by decide, by decide +kernel⟩
theorem mw_X9_init : nd_MW yX9_init cX9_init 1 none 0 := ⟨q416, q94, by decide, by decide, by decide +kernel⟩
theorem mw_X2_numeric : nd_MW yX2_numeric cX2_numeric 2 (some (.object "NotationDesk$Numeric")) 1 := ⟨q412, q87, by decide, by decide, by decide +kernel⟩
theorem mw_X8_marked : nd_MW yX8_marked cX8_marked 2 none 1 := ⟨q449, q93, by decide, by decide, by decide +kernel⟩
theorem mw_X9_become : nd_MW yX9_become cX9_become 6 (some (.object "NotationDesk$Numeric")) 5 := ⟨q443, q94, by decide, by decide, by decide +kernel⟩
theorem mw_X2_integer : nd_MW yX2_integer cX2_integer 2 (some (.object "NotationDesk$Type")) 1 := ⟨q453, q87, by decide, by decide, by decide +kernel⟩
theorem mw_X2_isLetter : nd_MW yX2_isLetter cX2_isLetter 1 (some .boolean) 1 := ⟨q408, q87, by decide, by decide, by decide +kernel⟩
theorem mw_X2_isName : nd_MW yX2_isName cX2_isName 1 (some .boolean) 0 := ⟨q352, q87, by decide, by decide, by decide +kernel⟩
theorem mw_X10_height : nd_MW yX10_height cX10_height 3 (some .int) 0 := ⟨q391, q95, by decide, by decide, by decide +kernel⟩
theorem mw_X15_height : nd_MW yX15_height cX15_height 1 (some .int) 0 := ⟨q396, q100, by decide, by decide, by decide +kernel⟩
theorem mw_X8_height : nd_MW yX8_height cX8_height 1 (some .int) 0 := ⟨q394, q93, by decide, by decide, by decide +kernel⟩
theorem mw_X16_height : nd_MW yX16_height cX16_height 1 (some .int) 0 := ⟨q399, q101, by decide, by decide, by decide +kernel⟩
theorem mw_X2_named : nd_MW yX2_named cX2_named 3 (some (.object "NotationDesk$Type")) 1 := ⟨q381, q87, by decide, by decide, by decide +kernel⟩
theorem mw_X14_become : nd_MW yX14_become cX14_become 4 none 3 := ⟨q621, q99, by decide, by decide, by decide +kernel⟩
theorem mw_X2_bounded : nd_MW yX2_bounded cX2_bounded 2 (some .boolean) 1 := ⟨q617, q87, by decide, by decide, by decide +kernel⟩
theorem mw_X14_init : nd_MW yX14_init cX14_init 1 none 0 := ⟨q593, q99, by decide, by decide, by decide +kernel⟩
theorem mw_X13_init : nd_MW yX13_init cX13_init 1 none 0 := ⟨q587, q98, by decide, by decide, by decide +kernel⟩
theorem mw_X2_octetsAt : nd_MW yX2_octetsAt cX2_octetsAt 2 (some (.object "NotationDesk$Type")) 1 := ⟨q583, q87, by decide, by decide, by decide +kernel⟩
theorem mw_X1_outside : nd_MW yX1_outside cX1_outside 3 (some .boolean) 3 := ⟨q517, q86, by decide, by decide, by decide +kernel⟩
theorem mw_X9_isRight : nd_MW yX9_isRight cX9_isRight 2 (some .boolean) 1 := ⟨q514, q94, by decide, by decide, by decide +kernel⟩
theorem mw_X9_holds : nd_MW yX9_holds cX9_holds 2 (some .boolean) 1 := ⟨q510, q94, by decide, by decide, by decide +kernel⟩
theorem mw_X16_holds : nd_MW yX16_holds cX16_holds 2 (some .boolean) 1 := ⟨q523, q101, by decide, by decide, by decide +kernel⟩
theorem mw_X7_holds : nd_MW yX7_holds cX7_holds 2 (some .boolean) 1 := ⟨q525, q92, by decide, by decide, by decide +kernel⟩
theorem mw_X2_component : nd_MW yX2_component cX2_component 3 (some .boolean) 2 := ⟨q503, q87, by decide, by decide, by decide +kernel⟩
theorem mw_X11_init : nd_MW yX11_init cX11_init 1 none 0 := ⟨q469, q96, by decide, by decide, by decide +kernel⟩
theorem mw_X11_isDistinct : nd_MW yX11_isDistinct cX11_isDistinct 3 (some .boolean) 0 := ⟨q539, q96, by decide, by decide, by decide +kernel⟩
theorem mw_X2_sequenceOf : nd_MW yX2_sequenceOf cX2_sequenceOf 6 (some (.object "NotationDesk$Type")) 3 := ⟨q465, q87, by decide, by decide, by decide +kernel⟩
theorem mw_X15_init : nd_MW yX15_init cX15_init 1 none 0 := ⟨q628, q100, by decide, by decide, by decide +kernel⟩
theorem mw_X2_seriesOf : nd_MW yX2_seriesOf cX2_seriesOf 4 (some (.object "NotationDesk$Type")) 3 := ⟨q624, q87, by decide, by decide, by decide +kernel⟩
theorem mw_X2_bodyOf : nd_MW yX2_bodyOf cX2_bodyOf 4 (some (.object "NotationDesk$Type")) 2 := ⟨q377, q87, by decide, by decide, by decide +kernel⟩
theorem mw_X2_isTag : nd_MW yX2_isTag cX2_isTag 1 (some .boolean) 0 := ⟨q371, q87, by decide, by decide, by decide +kernel⟩
theorem mw_X16_init : nd_MW yX16_init cX16_init 1 none 0 := ⟨q644, q101, by decide, by decide, by decide +kernel⟩
theorem mw_X7_isChoice : nd_MW yX7_isChoice cX7_isChoice 1 (some .boolean) 0 := ⟨q671, q92, by decide, by decide, by decide +kernel⟩
theorem mw_X16_become : nd_MW yX16_become cX16_become 4 (some (.object "NotationDesk$Tagged")) 3 := ⟨q659, q101, by decide, by decide, by decide +kernel⟩
theorem mw_X2_typeOf : nd_MW yX2_typeOf cX2_typeOf 6 (some (.object "NotationDesk$Type")) 2 := ⟨q367, q87, by decide, by decide, by decide +kernel⟩
theorem mw_X2_define : nd_MW yX2_define cX2_define 3 (some .boolean) 1 := ⟨q348, q87, by decide, by decide, by decide +kernel⟩
theorem mw_X2_run : nd_MW yX2_run cX2_run 2 (some .boolean) 0 := ⟨q345, q87, by decide, by decide, by decide +kernel⟩
theorem mw_X1_bytesOf : nd_MW yX1_bytesOf cX1_bytesOf 1 (some .int) 1 := ⟨q964, q86, by decide, by decide, by decide +kernel⟩
theorem mw_X9_content : nd_MW yX9_content cX9_content 2 (some .int) 1 := ⟨q1127, q94, by decide, by decide, by decide +kernel⟩
theorem mw_X9_given : nd_MW yX9_given cX9_given 3 (some (.object "NotationDesk$Part")) 2 := ⟨q959, q94, by decide, by decide, by decide +kernel⟩
theorem mw_X5_add : nd_MW yX5_add cX5_add 2 none 1 := ⟨q1138, q90, by decide, by decide, by decide +kernel⟩
theorem mw_X5_putInt : nd_MW yX5_putInt cX5_putInt 4 none 1 := ⟨q1153, q90, by decide, by decide, by decide +kernel⟩
theorem mw_X9_pack : nd_MW yX9_pack cX9_pack 3 none 2 := ⟨q1241, q94, by decide, by decide, by decide +kernel⟩
theorem mw_X4_next : nd_MW yX4_next cX4_next 1 (some .int) 0 := ⟨q1056, q89, by decide, by decide, by decide +kernel⟩
theorem mw_X9_readContent : nd_MW yX9_readContent cX9_readContent 5 (some (.object "NotationDesk$Part")) 2 := ⟨q1067, q94, by decide, by decide, by decide +kernel⟩
theorem mw_X9_unpack : nd_MW yX9_unpack cX9_unpack 5 (some (.object "NotationDesk$Part")) 1 := ⟨q953, q94, by decide, by decide, by decide +kernel⟩
theorem mw_X9_writeContent : nd_MW yX9_writeContent cX9_writeContent 3 none 2 := ⟨q1148, q94, by decide, by decide, by decide +kernel⟩
theorem mw_X13_add : nd_MW yX13_add cX13_add 3 none 3 := ⟨q989, q98, by decide, by decide, by decide +kernel⟩
theorem mw_X13_content : nd_MW yX13_content cX13_content 2 (some .int) 1 := ⟨q1130, q98, by decide, by decide, by decide +kernel⟩
theorem mw_X13_writeContent : nd_MW yX13_writeContent cX13_writeContent 4 none 2 := ⟨q1157, q98, by decide, by decide, by decide +kernel⟩
theorem mw_X14_isShort : nd_MW yX14_isShort cX14_isShort 1 (some .boolean) 0 := ⟨q983, q99, by decide, by decide, by decide +kernel⟩
theorem mw_X14_pack : nd_MW yX14_pack cX14_pack 3 none 2 := ⟨q1248, q99, by decide, by decide, by decide +kernel⟩
theorem mw_X13_pack : nd_MW yX13_pack cX13_pack 3 none 2 := ⟨q1244, q98, by decide, by decide, by decide +kernel⟩
theorem mw_X14_holds : nd_MW yX14_holds cX14_holds 2 (some .boolean) 1 := ⟨q978, q99, by decide, by decide, by decide +kernel⟩
theorem mw_X13_readContent : nd_MW yX13_readContent cX13_readContent 5 (some (.object "NotationDesk$Part")) 2 := ⟨q1071, q98, by decide, by decide, by decide +kernel⟩
theorem mw_X14_unpack : nd_MW yX14_unpack cX14_unpack 2 (some .int) 1 := ⟨q972, q99, by decide, by decide, by decide +kernel⟩
theorem mw_X13_unpack : nd_MW yX13_unpack cX13_unpack 5 (some (.object "NotationDesk$Part")) 1 := ⟨q968, q98, by decide, by decide, by decide +kernel⟩
theorem mw_X17_component : nd_MW yX17_component cX17_component 3 (some (.object "NotationDesk$Part")) 1 := ⟨q1172, q111, by decide, by decide, by decide +kernel⟩
theorem mw_X16_given : nd_MW yX16_given cX16_given 3 (some (.object "NotationDesk$Part")) 2 := ⟨q1027, q101, by decide, by decide, by decide +kernel⟩
theorem mw_X7_given : nd_MW yX7_given cX7_given 3 (some (.object "NotationDesk$Part")) 2 := ⟨q1029, q92, by decide, by decide, by decide +kernel⟩
theorem mw_X11_add : nd_MW yX11_add cX11_add 7 (some .boolean) 5 := ⟨q1016, q96, by decide, by decide, by decide +kernel⟩
theorem mw_X11_isWritten : nd_MW yX11_isWritten cX11_isWritten 4 (some .boolean) 2 := ⟨q1168, q96, by decide, by decide, by decide +kernel⟩
theorem mw_X11_content : nd_MW yX11_content cX11_content 4 (some .int) 1 := ⟨q1164, q96, by decide, by decide, by decide +kernel⟩
theorem mw_X11_pack : nd_MW yX11_pack cX11_pack 4 none 2 := ⟨q1253, q96, by decide, by decide, by decide +kernel⟩
theorem mw_X4_length : nd_MW yX4_length cX4_length 5 (some .int) 1 := ⟨q1060, q89, by decide, by decide, by decide +kernel⟩
theorem mw_X4_enter : nd_MW yX4_enter cX4_enter 3 (some .boolean) 1 := ⟨q1078, q89, by decide, by decide, by decide +kernel⟩
theorem mw_X4_leave : nd_MW yX4_leave cX4_leave 2 (some .boolean) 0 := ⟨q1097, q89, by decide, by decide, by decide +kernel⟩
theorem mw_X11_read : nd_MW yX11_read cX11_read 6 (some (.object "NotationDesk$Part")) 2 := ⟨q1074, q96, by decide, by decide, by decide +kernel⟩
theorem mw_X1_headed : nd_MW yX1_headed cX1_headed 1 (some .int) 1 := ⟨q1184, q86, by decide, by decide, by decide +kernel⟩
theorem mw_X11_size : nd_MW yX11_size cX11_size 2 (some .int) 1 := ⟨q1186, q96, by decide, by decide, by decide +kernel⟩
theorem mw_X11_unpack : nd_MW yX11_unpack cX11_unpack 6 (some (.object "NotationDesk$Part")) 1 := ⟨q991, q96, by decide, by decide, by decide +kernel⟩
theorem mw_X5_header : nd_MW yX5_header cX5_header 3 none 2 := ⟨q1134, q90, by decide, by decide, by decide +kernel⟩
theorem mw_X15_content : nd_MW yX15_content cX15_content 4 (some .int) 1 := ⟨q1193, q100, by decide, by decide, by decide +kernel⟩
theorem mw_X15_size : nd_MW yX15_size cX15_size 2 (some .int) 1 := ⟨q1189, q100, by decide, by decide, by decide +kernel⟩
theorem mw_X8_size : nd_MW yX8_size cX8_size 2 (some .int) 1 := ⟨q1181, q93, by decide, by decide, by decide +kernel⟩
theorem mw_X16_size : nd_MW yX16_size cX16_size 2 (some .int) 1 := ⟨q1196, q101, by decide, by decide, by decide +kernel⟩
theorem mw_X11_write : nd_MW yX11_write cX11_write 5 none 3 := ⟨q1160, q96, by decide, by decide, by decide +kernel⟩
theorem mw_X15_add : nd_MW yX15_add cX15_add 2 (some .boolean) 2 := ⟨q1008, q100, by decide, by decide, by decide +kernel⟩
theorem mw_X15_pack : nd_MW yX15_pack cX15_pack 4 none 2 := ⟨q1257, q100, by decide, by decide, by decide +kernel⟩
theorem mw_X4_isAtEnd : nd_MW yX4_isAtEnd cX4_isAtEnd 1 (some .boolean) 0 := ⟨q1088, q89, by decide, by decide, by decide +kernel⟩
theorem mw_X15_read : nd_MW yX15_read cX15_read 4 (some (.object "NotationDesk$Part")) 2 := ⟨q1083, q100, by decide, by decide, by decide +kernel⟩
theorem mw_X15_unpack : nd_MW yX15_unpack cX15_unpack 5 (some (.object "NotationDesk$Part")) 1 := ⟨q997, q100, by decide, by decide, by decide +kernel⟩
theorem mw_X15_write : nd_MW yX15_write cX15_write 5 none 3 := ⟨q1208, q100, by decide, by decide, by decide +kernel⟩
theorem mw_X8_read : nd_MW yX8_read cX8_read 4 (some (.object "NotationDesk$Part")) 2 := ⟨q1052, q93, by decide, by decide, by decide +kernel⟩
theorem mw_X8_write : nd_MW yX8_write cX8_write 4 none 3 := ⟨q1121, q93, by decide, by decide, by decide +kernel⟩
theorem mw_X4_init : nd_MW yX4_init cX4_init 1 none 0 := ⟨q229, q89, by decide, by decide, by decide +kernel⟩
theorem mw_X4_begin : nd_MW yX4_begin cX4_begin 5 none 4 := ⟨q863, q89, by decide, by decide, by decide +kernel⟩
theorem mw_X3_init : nd_MW yX3_init cX3_init 1 none 0 := ⟨q197, q88, by decide, by decide, by decide +kernel⟩
theorem mw_X3_arrange : nd_MW yX3_arrange cX3_arrange 4 none 3 := ⟨q1292, q88, by decide, by decide, by decide +kernel⟩
theorem mw_X3_clear : nd_MW yX3_clear cX3_clear 1 none 0 := ⟨q333, q88, by decide, by decide, by decide +kernel⟩
theorem mw_X16_pack : nd_MW yX16_pack cX16_pack 3 none 2 := ⟨q1261, q101, by decide, by decide, by decide +kernel⟩
theorem mw_X16_read : nd_MW yX16_read cX16_read 5 (some (.object "NotationDesk$Part")) 2 := ⟨q1091, q101, by decide, by decide, by decide +kernel⟩
theorem mw_X16_unpack : nd_MW yX16_unpack cX16_unpack 2 (some (.object "NotationDesk$Part")) 1 := ⟨q1004, q101, by decide, by decide, by decide +kernel⟩
theorem mw_X16_write : nd_MW yX16_write cX16_write 5 none 3 := ⟨q1212, q101, by decide, by decide, by decide +kernel⟩
theorem mw_X5_init : nd_MW yX5_init cX5_init 1 none 0 := ⟨q268, q90, by decide, by decide, by decide +kernel⟩
theorem mw_X5_begin : nd_MW yX5_begin cX5_begin 2 none 1 := ⟨q1112, q90, by decide, by decide, by decide +kernel⟩
theorem mw_X1_init : nd_MW yX1_init cX1_init 1 none 0 := ⟨q117, q86, by decide, by decide, by decide +kernel⟩
theorem mw_X1_at : nd_MW yX1_at cX1_at 2 (some .int) 1 := ⟨q771, q86, by decide, by decide, by decide +kernel⟩
theorem mw_X1_forget : nd_MW yX1_forget cX1_forget 2 none 0 := ⟨q329, q86, by decide, by decide, by decide +kernel⟩
theorem mw_X1_clear : nd_MW yX1_clear cX1_clear 2 (some .int) 0 := ⟨q337, q86, by decide, by decide, by decide +kernel⟩
theorem mw_X1_compile : nd_MW yX1_compile cX1_compile 1 (some .int) 0 := ⟨q341, q86, by decide, by decide, by decide +kernel⟩
theorem mw_X1_keep : nd_MW yX1_keep cX1_keep 3 none 1 := ⟨q1289, q86, by decide, by decide, by decide +kernel⟩
theorem mw_X1_known : nd_MW yX1_known cX1_known 2 (some (.object "NotationDesk$Part")) 1 := ⟨q1304, q86, by decide, by decide, by decide +kernel⟩
theorem mw_X1_named : nd_MW yX1_named cX1_named 3 (some (.object "NotationDesk$Type")) 1 := ⟨q825, q86, by decide, by decide, by decide +kernel⟩
theorem mw_X1_need : nd_MW yX1_need cX1_need 1 none 1 := ⟨q806, q86, by decide, by decide, by decide +kernel⟩
theorem mw_X1_octet : nd_MW yX1_octet cX1_octet 4 (some .int) 2 := ⟨q1311, q86, by decide, by decide, by decide +kernel⟩
theorem mw_X1_operation : nd_MW yX1_operation cX1_operation 5 none 4 := ⟨q1318, q86, by decide, by decide, by decide +kernel⟩
theorem mw_X1_part : nd_MW yX1_part cX1_part 4 (some .int) 2 := ⟨q1300, q86, by decide, by decide, by decide +kernel⟩
theorem mw_X1_parts : nd_MW yX1_parts cX1_parts 1 (some .int) 0 := ⟨q685, q86, by decide, by decide, by decide +kernel⟩
theorem mw_X1_put : nd_MW yX1_put cX1_put 5 (some .boolean) 2 := ⟨q675, q86, by decide, by decide, by decide +kernel⟩
theorem mw_X1_write : nd_MW yX1_write cX1_write 4 none 3 := ⟨q1108, q86, by decide, by decide, by decide +kernel⟩
theorem mw_X1_read : nd_MW yX1_read cX1_read 7 (some (.object "NotationDesk$Part")) 3 := ⟨q859, q86, by decide, by decide, by decide +kernel⟩
theorem mw_X1_replies : nd_MW yX1_replies cX1_replies 4 (some .int) 3 := ⟨q1329, q86, by decide, by decide, by decide +kernel⟩
theorem mw_X1_serve : nd_MW yX1_serve cX1_serve 5 (some .int) 0 := ⟨q1325, q86, by decide, by decide, by decide +kernel⟩
theorem mw_X1_transcode : nd_MW yX1_transcode cX1_transcode 7 (some .int) 3 := ⟨q803, q86, by decide, by decide, by decide +kernel⟩
theorem mw_X1_type : nd_MW yX1_type cX1_type 2 (some .boolean) 1 := ⟨q325, q86, by decide, by decide, by decide +kernel⟩
theorem mw_X1_wipe : nd_MW yX1_wipe cX1_wipe 2 (some .int) 0 := ⟨q681, q86, by decide, by decide, by decide +kernel⟩
def nc_given (l : Launch) (w : Wd) (b fr lo : Nat) (as : List AV) (h : Hp) (r : Res) : Prop :=
  (nd_Kd b = 6 → nd_C l w yX9_given cX9_given 3 (some (.object "NotationDesk$Part")) fr lo as h r) ∧
  (nd_Kd b = 7 → nd_C l w yX7_given cX7_given 3 (some (.object "NotationDesk$Part")) fr lo as h r) ∧
  (nd_Kd b = 8 → nd_C l w yX7_given cX7_given 3 (some (.object "NotationDesk$Part")) fr lo as h r) ∧
  (nd_Kd b = 9 → nd_C l w yX7_given cX7_given 3 (some (.object "NotationDesk$Part")) fr lo as h r) ∧
  (nd_Kd b = 11 → nd_C l w yX7_given cX7_given 3 (some (.object "NotationDesk$Part")) fr lo as h r) ∧
  (nd_Kd b = 12 → nd_C l w yX16_given cX16_given 3 (some (.object "NotationDesk$Part")) fr lo as h r)
theorem nd_v_given {l : Launch} {w : Wd} {r : Res} {h h' : Hp} {pc : Nat} {L : LL} {st0 : List AV} {y : MethodName} {cc : ByteArray} {nL fr lo : Nat} {ret : Option FieldType} {frc loc index : Nat} {b : Nat} {p0 : Nat} {p1 : Int32} {v : Option Nat} (st : List AV) (hCt : nc_given l w b frc loc [vr (some b), vr (some p0), vi p1] h (.inl (some (vr v)), h')) (hS : st0 = List.reverse [vr (some p0), vi p1] ++ vr (some b) :: st) (d : decode cc pc = .ok (.invokevirtual index, 3)) (hl : Cond.methodLink y.cls index ⟨"NotationDesk$Type", "given", "(LNotationDesk$Store;I)LNotationDesk$Part;"⟩ ∈ lw_all) (hk : [6, 7, 8, 9, 11, 12].contains (nd_Kd b) = true) (hfr : frc + 1 ≤ fr) (hlo : 8 + (3 + 11) + loc ≤ lo) (hsz : (st.map ac).sum ≤ 8) (kk : (∀ b, v = some b → nd_okT (some (.object "NotationDesk$Part")) (nd_Kd b) = true) → nd_V l w y cc nL ret fr lo r h' (pc + 3) L (vr v :: st)) : nd_V l w y cc nL ret fr lo r h pc L st0 := by
  have hk2 : nd_Kd b = 6 ∨ nd_Kd b = 7 ∨ nd_Kd b = 8 ∨ nd_Kd b = 9 ∨ nd_Kd b = 11 ∨ nd_Kd b = 12 := by simpa using hk
  rcases hk2 with hk2 | hk2 | hk2 | hk2 | hk2 | hk2
  · exact nd_Ur (as := [vr (some p0), vi p1]) st (hCt.1 hk2) hS d mw_X9_given hl hk2 rfl q1019 (Or.inr ⟨q1018, _, _, _, q1029⟩) q957 q1021 (by decide) mw_X9_given.2.2.2.2 hfr (by omega) hsz kk
  · exact nd_Ur (as := [vr (some p0), vi p1]) st (hCt.2.1 hk2) hS d mw_X7_given hl hk2 rfl q1019 (Or.inr ⟨q1018, _, _, _, q1029⟩) q1018 q1023 (by decide) mw_X7_given.2.2.2.2 hfr (by omega) hsz kk
  · exact nd_Ur (as := [vr (some p0), vi p1]) st (hCt.2.2.1 hk2) hS d mw_X7_given hl hk2 rfl q1019 (Or.inr ⟨q1018, _, _, _, q1029⟩) q1018 q1020 (by decide) mw_X7_given.2.2.2.2 hfr (by omega) hsz kk
  · exact nd_Ur (as := [vr (some p0), vi p1]) st (hCt.2.2.2.1 hk2) hS d mw_X7_given hl hk2 rfl q1019 (Or.inr ⟨q1018, _, _, _, q1029⟩) q1018 q1022 (by decide) mw_X7_given.2.2.2.2 hfr (by omega) hsz kk
  · exact nd_Ur (as := [vr (some p0), vi p1]) st (hCt.2.2.2.2.1 hk2) hS d mw_X7_given hl hk2 rfl q1019 (Or.inr ⟨q1018, _, _, _, q1029⟩) q1018 q1024 (by decide) mw_X7_given.2.2.2.2 hfr (by omega) hsz kk
  · exact nd_Ur (as := [vr (some p0), vi p1]) st (hCt.2.2.2.2.2 hk2) hS d mw_X16_given hl hk2 rfl q1019 (Or.inr ⟨q1018, _, _, _, q1029⟩) q1026 q1025 (by decide) mw_X16_given.2.2.2.2 hfr (by omega) hsz kk
def nc_height (l : Launch) (w : Wd) (b fr lo : Nat) (as : List AV) (h : Hp) (r : Res) : Prop :=
  (nd_Kd b = 6 → nd_C l w yX8_height cX8_height 1 (some .int) fr lo as h r) ∧
  (nd_Kd b = 7 → nd_C l w yX10_height cX10_height 3 (some .int) fr lo as h r) ∧
  (nd_Kd b = 8 → nd_C l w yX10_height cX10_height 3 (some .int) fr lo as h r) ∧
  (nd_Kd b = 9 → nd_C l w yX8_height cX8_height 1 (some .int) fr lo as h r) ∧
  (nd_Kd b = 11 → nd_C l w yX15_height cX15_height 1 (some .int) fr lo as h r) ∧
  (nd_Kd b = 12 → nd_C l w yX16_height cX16_height 1 (some .int) fr lo as h r)
theorem nd_v_height {l : Launch} {w : Wd} {r : Res} {h h' : Hp} {pc : Nat} {L : LL} {st0 : List AV} {y : MethodName} {cc : ByteArray} {nL fr lo : Nat} {ret : Option FieldType} {frc loc index : Nat} {b : Nat} {v : Int32} (st : List AV) (hCt : nc_height l w b frc loc [vr (some b)] h (.inl (some (vi v)), h')) (hS : st0 = List.reverse [] ++ vr (some b) :: st) (d : decode cc pc = .ok (.invokevirtual index, 3)) (hl : Cond.methodLink y.cls index ⟨"NotationDesk$Type", "height", "()I"⟩ ∈ lw_all) (hk : [6, 7, 8, 9, 11, 12].contains (nd_Kd b) = true) (hfr : frc + 1 ≤ fr) (hlo : 8 + (3 + 11) + loc ≤ lo) (hsz : (st.map ac).sum ≤ 8) (kk : nd_V l w y cc nL ret fr lo r h' (pc + 3) L (vi v :: st)) : nd_V l w y cc nL ret fr lo r h pc L st0 := by
  have hk2 : nd_Kd b = 6 ∨ nd_Kd b = 7 ∨ nd_Kd b = 8 ∨ nd_Kd b = 9 ∨ nd_Kd b = 11 ∨ nd_Kd b = 12 := by simpa using hk
  rcases hk2 with hk2 | hk2 | hk2 | hk2 | hk2 | hk2
  · exact nd_Ui (as := []) st (hCt.1 hk2) hS d mw_X8_height hl hk2 rfl q388 (Or.inl q387) q393 q401 (by decide) mw_X8_height.2.2.2.2 hfr (by omega) hsz kk
  · exact nd_Ui (as := []) st (hCt.2.1 hk2) hS d mw_X10_height hl hk2 rfl q388 (Or.inl q387) q390 q403 (by decide) mw_X10_height.2.2.2.2 hfr (by omega) hsz kk
  · exact nd_Ui (as := []) st (hCt.2.2.1 hk2) hS d mw_X10_height hl hk2 rfl q388 (Or.inl q387) q390 q389 (by decide) mw_X10_height.2.2.2.2 hfr (by omega) hsz kk
  · exact nd_Ui (as := []) st (hCt.2.2.2.1 hk2) hS d mw_X8_height hl hk2 rfl q388 (Or.inl q387) q393 q402 (by decide) mw_X8_height.2.2.2.2 hfr (by omega) hsz kk
  · exact nd_Ui (as := []) st (hCt.2.2.2.2.1 hk2) hS d mw_X15_height hl hk2 rfl q388 (Or.inl q387) q395 q404 (by decide) mw_X15_height.2.2.2.2 hfr (by omega) hsz kk
  · exact nd_Ui (as := []) st (hCt.2.2.2.2.2 hk2) hS d mw_X16_height hl hk2 rfl q388 (Or.inl q387) q398 q405 (by decide) mw_X16_height.2.2.2.2 hfr (by omega) hsz kk
def nc_holds (l : Launch) (w : Wd) (b fr lo : Nat) (as : List AV) (h : Hp) (r : Res) : Prop :=
  (nd_Kd b = 6 → nd_C l w yX9_holds cX9_holds 2 (some .boolean) fr lo as h r) ∧
  (nd_Kd b = 7 → nd_C l w yX7_holds cX7_holds 2 (some .boolean) fr lo as h r) ∧
  (nd_Kd b = 8 → nd_C l w yX7_holds cX7_holds 2 (some .boolean) fr lo as h r) ∧
  (nd_Kd b = 9 → nd_C l w yX7_holds cX7_holds 2 (some .boolean) fr lo as h r) ∧
  (nd_Kd b = 11 → nd_C l w yX7_holds cX7_holds 2 (some .boolean) fr lo as h r) ∧
  (nd_Kd b = 12 → nd_C l w yX16_holds cX16_holds 2 (some .boolean) fr lo as h r)
theorem nd_v_holds {l : Launch} {w : Wd} {r : Res} {h h' : Hp} {pc : Nat} {L : LL} {st0 : List AV} {y : MethodName} {cc : ByteArray} {nL fr lo : Nat} {ret : Option FieldType} {frc loc index : Nat} {b : Nat} {p0 : Int32} {v : Int32} (st : List AV) (hCt : nc_holds l w b frc loc [vr (some b), vi p0] h (.inl (some (vi v)), h')) (hS : st0 = List.reverse [vi p0] ++ vr (some b) :: st) (d : decode cc pc = .ok (.invokevirtual index, 3)) (hl : Cond.methodLink y.cls index ⟨"NotationDesk$Type", "holds", "(I)Z"⟩ ∈ lw_all) (hk : [6, 7, 8, 9, 11, 12].contains (nd_Kd b) = true) (hfr : frc + 1 ≤ fr) (hlo : 8 + (2 + 11) + loc ≤ lo) (hsz : (st.map ac).sum ≤ 8) (kk : nd_V l w y cc nL ret fr lo r h' (pc + 3) L (vi v :: st)) : nd_V l w y cc nL ret fr lo r h pc L st0 := by
  have hk2 : nd_Kd b = 6 ∨ nd_Kd b = 7 ∨ nd_Kd b = 8 ∨ nd_Kd b = 9 ∨ nd_Kd b = 11 ∨ nd_Kd b = 12 := by simpa using hk
  rcases hk2 with hk2 | hk2 | hk2 | hk2 | hk2 | hk2
  · exact nd_Ui (as := [vi p0]) st (hCt.1 hk2) hS d mw_X9_holds hl hk2 rfl q506 (Or.inr ⟨q505, _, _, _, q525⟩) q509 q508 (by decide) mw_X9_holds.2.2.2.2 hfr (by omega) hsz kk
  · exact nd_Ui (as := [vi p0]) st (hCt.2.1 hk2) hS d mw_X7_holds hl hk2 rfl q506 (Or.inr ⟨q505, _, _, _, q525⟩) q505 q519 (by decide) mw_X7_holds.2.2.2.2 hfr (by omega) hsz kk
  · exact nd_Ui (as := [vi p0]) st (hCt.2.2.1 hk2) hS d mw_X7_holds hl hk2 rfl q506 (Or.inr ⟨q505, _, _, _, q525⟩) q505 q507 (by decide) mw_X7_holds.2.2.2.2 hfr (by omega) hsz kk
  · exact nd_Ui (as := [vi p0]) st (hCt.2.2.2.1 hk2) hS d mw_X7_holds hl hk2 rfl q506 (Or.inr ⟨q505, _, _, _, q525⟩) q505 q518 (by decide) mw_X7_holds.2.2.2.2 hfr (by omega) hsz kk
  · exact nd_Ui (as := [vi p0]) st (hCt.2.2.2.2.1 hk2) hS d mw_X7_holds hl hk2 rfl q506 (Or.inr ⟨q505, _, _, _, q525⟩) q505 q520 (by decide) mw_X7_holds.2.2.2.2 hfr (by omega) hsz kk
  · exact nd_Ui (as := [vi p0]) st (hCt.2.2.2.2.2 hk2) hS d mw_X16_holds hl hk2 rfl q506 (Or.inr ⟨q505, _, _, _, q525⟩) q522 q521 (by decide) mw_X16_holds.2.2.2.2 hfr (by omega) hsz kk
def nc_pack (l : Launch) (w : Wd) (b fr lo : Nat) (as : List AV) (h : Hp) (r : Res) : Prop :=
  (nd_Kd b = 6 → nd_C l w yX9_pack cX9_pack 3 none fr lo as h r) ∧
  (nd_Kd b = 7 → nd_C l w yX11_pack cX11_pack 4 none fr lo as h r) ∧
  (nd_Kd b = 8 → nd_C l w yX12_pack cX12_pack 3 none fr lo as h r) ∧
  (nd_Kd b = 9 → nd_C l w yX13_pack cX13_pack 3 none fr lo as h r) ∧
  (nd_Kd b = 11 → nd_C l w yX15_pack cX15_pack 4 none fr lo as h r) ∧
  (nd_Kd b = 12 → nd_C l w yX16_pack cX16_pack 3 none fr lo as h r)
theorem nd_v_pack {l : Launch} {w : Wd} {r : Res} {h h' : Hp} {pc : Nat} {L : LL} {st0 : List AV} {y : MethodName} {cc : ByteArray} {nL fr lo : Nat} {ret : Option FieldType} {frc loc index : Nat} {b : Nat} {p0 : Nat} {p1 : Nat} (st : List AV) (hCt : nc_pack l w b frc loc [vr (some b), vr (some p0), vr (some p1)] h (.inl none, h')) (hS : st0 = List.reverse [vr (some p0), vr (some p1)] ++ vr (some b) :: st) (d : decode cc pc = .ok (.invokevirtual index, 3)) (hl : Cond.methodLink y.cls index ⟨"NotationDesk$Type", "pack", "(LNotationDesk$Part;LNotationDesk$Writer;)V"⟩ ∈ lw_all) (hk : [6, 7, 8, 9, 11, 12].contains (nd_Kd b) = true) (hfr : frc + 1 ≤ fr) (hlo : 8 + (4 + 11) + loc ≤ lo) (hsz : (st.map ac).sum ≤ 8) (kk : nd_V l w y cc nL ret fr lo r h' (pc + 3) L (st)) : nd_V l w y cc nL ret fr lo r h pc L st0 := by
  have hk2 : nd_Kd b = 6 ∨ nd_Kd b = 7 ∨ nd_Kd b = 8 ∨ nd_Kd b = 9 ∨ nd_Kd b = 11 ∨ nd_Kd b = 12 := by simpa using hk
  rcases hk2 with hk2 | hk2 | hk2 | hk2 | hk2 | hk2
  · exact nd_Uv (as := [vr (some p0), vr (some p1)]) st (hCt.1 hk2) hS d mw_X9_pack hl hk2 rfl q1222 (Or.inl q1221) q1240 q1263 (by decide) mw_X9_pack.2.2.2.2 hfr (by omega) hsz kk
  · exact nd_Uv (as := [vr (some p0), vr (some p1)]) st (hCt.2.1 hk2) hS d mw_X11_pack hl hk2 rfl q1222 (Or.inl q1221) q1252 q1265 (by decide) mw_X11_pack.2.2.2.2 hfr (by omega) hsz kk
  · exact nd_Uv (as := [vr (some p0), vr (some p1)]) st (hCt.2.2.1 hk2) hS d mw_X12_pack hl hk2 rfl q1222 (Or.inl q1221) q1224 q1223 (by decide) mw_X12_pack.2.2.2.2 hfr (by omega) hsz kk
  · exact nd_Uv (as := [vr (some p0), vr (some p1)]) st (hCt.2.2.2.1 hk2) hS d mw_X13_pack hl hk2 rfl q1222 (Or.inl q1221) q1243 q1264 (by decide) mw_X13_pack.2.2.2.2 hfr (by omega) hsz kk
  · exact nd_Uv (as := [vr (some p0), vr (some p1)]) st (hCt.2.2.2.2.1 hk2) hS d mw_X15_pack hl hk2 rfl q1222 (Or.inl q1221) q1256 q1266 (by decide) mw_X15_pack.2.2.2.2 hfr (by omega) hsz kk
  · exact nd_Uv (as := [vr (some p0), vr (some p1)]) st (hCt.2.2.2.2.2 hk2) hS d mw_X16_pack hl hk2 rfl q1222 (Or.inl q1221) q1260 q1267 (by decide) mw_X16_pack.2.2.2.2 hfr (by omega) hsz kk
def nc_read (l : Launch) (w : Wd) (b fr lo : Nat) (as : List AV) (h : Hp) (r : Res) : Prop :=
  (nd_Kd b = 6 → nd_C l w yX8_read cX8_read 4 (some (.object "NotationDesk$Part")) fr lo as h r) ∧
  (nd_Kd b = 7 → nd_C l w yX11_read cX11_read 6 (some (.object "NotationDesk$Part")) fr lo as h r) ∧
  (nd_Kd b = 8 → nd_C l w yX12_read cX12_read 5 (some (.object "NotationDesk$Part")) fr lo as h r) ∧
  (nd_Kd b = 9 → nd_C l w yX8_read cX8_read 4 (some (.object "NotationDesk$Part")) fr lo as h r) ∧
  (nd_Kd b = 11 → nd_C l w yX15_read cX15_read 4 (some (.object "NotationDesk$Part")) fr lo as h r) ∧
  (nd_Kd b = 12 → nd_C l w yX16_read cX16_read 5 (some (.object "NotationDesk$Part")) fr lo as h r)
theorem nd_v_read {l : Launch} {w : Wd} {r : Res} {h h' : Hp} {pc : Nat} {L : LL} {st0 : List AV} {y : MethodName} {cc : ByteArray} {nL fr lo : Nat} {ret : Option FieldType} {frc loc index : Nat} {b : Nat} {p0 : Nat} {p1 : Int32} {v : Option Nat} (st : List AV) (hCt : nc_read l w b frc loc [vr (some b), vr (some p0), vi p1] h (.inl (some (vr v)), h')) (hS : st0 = List.reverse [vr (some p0), vi p1] ++ vr (some b) :: st) (d : decode cc pc = .ok (.invokevirtual index, 3)) (hl : Cond.methodLink y.cls index ⟨"NotationDesk$Type", "read", "(LNotationDesk$Source;I)LNotationDesk$Part;"⟩ ∈ lw_all) (hk : [6, 7, 8, 9, 11, 12].contains (nd_Kd b) = true) (hfr : frc + 1 ≤ fr) (hlo : 8 + (6 + 11) + loc ≤ lo) (hsz : (st.map ac).sum ≤ 8) (kk : (∀ b, v = some b → nd_okT (some (.object "NotationDesk$Part")) (nd_Kd b) = true) → nd_V l w y cc nL ret fr lo r h' (pc + 3) L (vr v :: st)) : nd_V l w y cc nL ret fr lo r h pc L st0 := by
  have hk2 : nd_Kd b = 6 ∨ nd_Kd b = 7 ∨ nd_Kd b = 8 ∨ nd_Kd b = 9 ∨ nd_Kd b = 11 ∨ nd_Kd b = 12 := by simpa using hk
  rcases hk2 with hk2 | hk2 | hk2 | hk2 | hk2 | hk2
  · exact nd_Ur (as := [vr (some p0), vi p1]) st (hCt.1 hk2) hS d mw_X8_read hl hk2 rfl q1042 (Or.inl q1041) q1051 q1100 (by decide) mw_X8_read.2.2.2.2 hfr (by omega) hsz kk
  · exact nd_Ur (as := [vr (some p0), vi p1]) st (hCt.2.1 hk2) hS d mw_X11_read hl hk2 rfl q1042 (Or.inl q1041) q1073 q1102 (by decide) mw_X11_read.2.2.2.2 hfr (by omega) hsz kk
  · exact nd_Ur (as := [vr (some p0), vi p1]) st (hCt.2.2.1 hk2) hS d mw_X12_read hl hk2 rfl q1042 (Or.inl q1041) q1044 q1043 (by decide) mw_X12_read.2.2.2.2 hfr (by omega) hsz kk
  · exact nd_Ur (as := [vr (some p0), vi p1]) st (hCt.2.2.2.1 hk2) hS d mw_X8_read hl hk2 rfl q1042 (Or.inl q1041) q1051 q1101 (by decide) mw_X8_read.2.2.2.2 hfr (by omega) hsz kk
  · exact nd_Ur (as := [vr (some p0), vi p1]) st (hCt.2.2.2.2.1 hk2) hS d mw_X15_read hl hk2 rfl q1042 (Or.inl q1041) q1082 q1103 (by decide) mw_X15_read.2.2.2.2 hfr (by omega) hsz kk
  · exact nd_Ur (as := [vr (some p0), vi p1]) st (hCt.2.2.2.2.2 hk2) hS d mw_X16_read hl hk2 rfl q1042 (Or.inl q1041) q1090 q1104 (by decide) mw_X16_read.2.2.2.2 hfr (by omega) hsz kk
def nc_size (l : Launch) (w : Wd) (b fr lo : Nat) (as : List AV) (h : Hp) (r : Res) : Prop :=
  (nd_Kd b = 6 → nd_C l w yX8_size cX8_size 2 (some .int) fr lo as h r) ∧
  (nd_Kd b = 7 → nd_C l w yX11_size cX11_size 2 (some .int) fr lo as h r) ∧
  (nd_Kd b = 8 → nd_C l w yX12_size cX12_size 2 (some .int) fr lo as h r) ∧
  (nd_Kd b = 9 → nd_C l w yX8_size cX8_size 2 (some .int) fr lo as h r) ∧
  (nd_Kd b = 11 → nd_C l w yX15_size cX15_size 2 (some .int) fr lo as h r) ∧
  (nd_Kd b = 12 → nd_C l w yX16_size cX16_size 2 (some .int) fr lo as h r)
theorem nd_v_size {l : Launch} {w : Wd} {r : Res} {h h' : Hp} {pc : Nat} {L : LL} {st0 : List AV} {y : MethodName} {cc : ByteArray} {nL fr lo : Nat} {ret : Option FieldType} {frc loc index : Nat} {b : Nat} {p0 : Nat} {v : Int32} (st : List AV) (hCt : nc_size l w b frc loc [vr (some b), vr (some p0)] h (.inl (some (vi v)), h')) (hS : st0 = List.reverse [vr (some p0)] ++ vr (some b) :: st) (d : decode cc pc = .ok (.invokevirtual index, 3)) (hl : Cond.methodLink y.cls index ⟨"NotationDesk$Type", "size", "(LNotationDesk$Part;)I"⟩ ∈ lw_all) (hk : [6, 7, 8, 9, 11, 12].contains (nd_Kd b) = true) (hfr : frc + 1 ≤ fr) (hlo : 8 + (2 + 11) + loc ≤ lo) (hsz : (st.map ac).sum ≤ 8) (kk : nd_V l w y cc nL ret fr lo r h' (pc + 3) L (vi v :: st)) : nd_V l w y cc nL ret fr lo r h pc L st0 := by
  have hk2 : nd_Kd b = 6 ∨ nd_Kd b = 7 ∨ nd_Kd b = 8 ∨ nd_Kd b = 9 ∨ nd_Kd b = 11 ∨ nd_Kd b = 12 := by simpa using hk
  rcases hk2 with hk2 | hk2 | hk2 | hk2 | hk2 | hk2
  · exact nd_Ui (as := [vr (some p0)]) st (hCt.1 hk2) hS d mw_X8_size hl hk2 rfl q1175 (Or.inl q1174) q1180 q1200 (by decide) mw_X8_size.2.2.2.2 hfr (by omega) hsz kk
  · exact nd_Ui (as := [vr (some p0)]) st (hCt.2.1 hk2) hS d mw_X11_size hl hk2 rfl q1175 (Or.inl q1174) q1185 q1202 (by decide) mw_X11_size.2.2.2.2 hfr (by omega) hsz kk
  · exact nd_Ui (as := [vr (some p0)]) st (hCt.2.2.1 hk2) hS d mw_X12_size hl hk2 rfl q1175 (Or.inl q1174) q1177 q1176 (by decide) mw_X12_size.2.2.2.2 hfr (by omega) hsz kk
  · exact nd_Ui (as := [vr (some p0)]) st (hCt.2.2.2.1 hk2) hS d mw_X8_size hl hk2 rfl q1175 (Or.inl q1174) q1180 q1201 (by decide) mw_X8_size.2.2.2.2 hfr (by omega) hsz kk
  · exact nd_Ui (as := [vr (some p0)]) st (hCt.2.2.2.2.1 hk2) hS d mw_X15_size hl hk2 rfl q1175 (Or.inl q1174) q1188 q1203 (by decide) mw_X15_size.2.2.2.2 hfr (by omega) hsz kk
  · exact nd_Ui (as := [vr (some p0)]) st (hCt.2.2.2.2.2 hk2) hS d mw_X16_size hl hk2 rfl q1175 (Or.inl q1174) q1195 q1204 (by decide) mw_X16_size.2.2.2.2 hfr (by omega) hsz kk
def nc_tags (l : Launch) (w : Wd) (b fr lo : Nat) (as : List AV) (h : Hp) (r : Res) : Prop :=
  (nd_Kd b = 6 → nd_C l w yX8_tags cX8_tags 1 (some .int) fr lo as h r) ∧
  (nd_Kd b = 7 → nd_C l w yX11_tags cX11_tags 1 (some .int) fr lo as h r) ∧
  (nd_Kd b = 8 → nd_C l w yX12_tags cX12_tags 3 (some .int) fr lo as h r) ∧
  (nd_Kd b = 9 → nd_C l w yX8_tags cX8_tags 1 (some .int) fr lo as h r) ∧
  (nd_Kd b = 11 → nd_C l w yX15_tags cX15_tags 1 (some .int) fr lo as h r) ∧
  (nd_Kd b = 12 → nd_C l w yX16_tags cX16_tags 1 (some .int) fr lo as h r)
theorem nd_v_tags {l : Launch} {w : Wd} {r : Res} {h h' : Hp} {pc : Nat} {L : LL} {st0 : List AV} {y : MethodName} {cc : ByteArray} {nL fr lo : Nat} {ret : Option FieldType} {frc loc index : Nat} {b : Nat} {v : Int32} (st : List AV) (hCt : nc_tags l w b frc loc [vr (some b)] h (.inl (some (vi v)), h')) (hS : st0 = List.reverse [] ++ vr (some b) :: st) (d : decode cc pc = .ok (.invokevirtual index, 3)) (hl : Cond.methodLink y.cls index ⟨"NotationDesk$Type", "tags", "()I"⟩ ∈ lw_all) (hk : [6, 7, 8, 9, 11, 12].contains (nd_Kd b) = true) (hfr : frc + 1 ≤ fr) (hlo : 8 + (3 + 11) + loc ≤ lo) (hsz : (st.map ac).sum ≤ 8) (kk : nd_V l w y cc nL ret fr lo r h' (pc + 3) L (vi v :: st)) : nd_V l w y cc nL ret fr lo r h pc L st0 := by
  have hk2 : nd_Kd b = 6 ∨ nd_Kd b = 7 ∨ nd_Kd b = 8 ∨ nd_Kd b = 9 ∨ nd_Kd b = 11 ∨ nd_Kd b = 12 := by simpa using hk
  rcases hk2 with hk2 | hk2 | hk2 | hk2 | hk2 | hk2
  · exact nd_Ui (as := []) st (hCt.1 hk2) hS d mw_X8_tags hl hk2 rfl q542 (Or.inl q541) q547 q557 (by decide) mw_X8_tags.2.2.2.2 hfr (by omega) hsz kk
  · exact nd_Ui (as := []) st (hCt.2.1 hk2) hS d mw_X11_tags hl hk2 rfl q542 (Or.inl q541) q549 q559 (by decide) mw_X11_tags.2.2.2.2 hfr (by omega) hsz kk
  · exact nd_Ui (as := []) st (hCt.2.2.1 hk2) hS d mw_X12_tags hl hk2 rfl q542 (Or.inl q541) q544 q543 (by decide) mw_X12_tags.2.2.2.2 hfr (by omega) hsz kk
  · exact nd_Ui (as := []) st (hCt.2.2.2.1 hk2) hS d mw_X8_tags hl hk2 rfl q542 (Or.inl q541) q547 q558 (by decide) mw_X8_tags.2.2.2.2 hfr (by omega) hsz kk
  · exact nd_Ui (as := []) st (hCt.2.2.2.2.1 hk2) hS d mw_X15_tags hl hk2 rfl q542 (Or.inl q541) q552 q560 (by decide) mw_X15_tags.2.2.2.2 hfr (by omega) hsz kk
  · exact nd_Ui (as := []) st (hCt.2.2.2.2.2 hk2) hS d mw_X16_tags hl hk2 rfl q542 (Or.inl q541) q555 q561 (by decide) mw_X16_tags.2.2.2.2 hfr (by omega) hsz kk
def nc_unpack (l : Launch) (w : Wd) (b fr lo : Nat) (as : List AV) (h : Hp) (r : Res) : Prop :=
  (nd_Kd b = 6 → nd_C l w yX9_unpack cX9_unpack 5 (some (.object "NotationDesk$Part")) fr lo as h r) ∧
  (nd_Kd b = 7 → nd_C l w yX11_unpack cX11_unpack 6 (some (.object "NotationDesk$Part")) fr lo as h r) ∧
  (nd_Kd b = 8 → nd_C l w yX12_unpack cX12_unpack 4 (some (.object "NotationDesk$Part")) fr lo as h r) ∧
  (nd_Kd b = 9 → nd_C l w yX13_unpack cX13_unpack 5 (some (.object "NotationDesk$Part")) fr lo as h r) ∧
  (nd_Kd b = 11 → nd_C l w yX15_unpack cX15_unpack 5 (some (.object "NotationDesk$Part")) fr lo as h r) ∧
  (nd_Kd b = 12 → nd_C l w yX16_unpack cX16_unpack 2 (some (.object "NotationDesk$Part")) fr lo as h r)
theorem nd_v_unpack {l : Launch} {w : Wd} {r : Res} {h h' : Hp} {pc : Nat} {L : LL} {st0 : List AV} {y : MethodName} {cc : ByteArray} {nL fr lo : Nat} {ret : Option FieldType} {frc loc index : Nat} {b : Nat} {p0 : Nat} {v : Option Nat} (st : List AV) (hCt : nc_unpack l w b frc loc [vr (some b), vr (some p0)] h (.inl (some (vr v)), h')) (hS : st0 = List.reverse [vr (some p0)] ++ vr (some b) :: st) (d : decode cc pc = .ok (.invokevirtual index, 3)) (hl : Cond.methodLink y.cls index ⟨"NotationDesk$Type", "unpack", "(LNotationDesk$Source;)LNotationDesk$Part;"⟩ ∈ lw_all) (hk : [6, 7, 8, 9, 11, 12].contains (nd_Kd b) = true) (hfr : frc + 1 ≤ fr) (hlo : 8 + (6 + 11) + loc ≤ lo) (hsz : (st.map ac).sum ≤ 8) (kk : (∀ b, v = some b → nd_okT (some (.object "NotationDesk$Part")) (nd_Kd b) = true) → nd_V l w y cc nL ret fr lo r h' (pc + 3) L (vr v :: st)) : nd_V l w y cc nL ret fr lo r h pc L st0 := by
  have hk2 : nd_Kd b = 6 ∨ nd_Kd b = 7 ∨ nd_Kd b = 8 ∨ nd_Kd b = 9 ∨ nd_Kd b = 11 ∨ nd_Kd b = 12 := by simpa using hk
  rcases hk2 with hk2 | hk2 | hk2 | hk2 | hk2 | hk2
  · exact nd_Ur (as := [vr (some p0)]) st (hCt.1 hk2) hS d mw_X9_unpack hl hk2 rfl q866 (Or.inl q865) q952 q1035 (by decide) mw_X9_unpack.2.2.2.2 hfr (by omega) hsz kk
  · exact nd_Ur (as := [vr (some p0)]) st (hCt.2.1 hk2) hS d mw_X11_unpack hl hk2 rfl q866 (Or.inl q865) q990 q1037 (by decide) mw_X11_unpack.2.2.2.2 hfr (by omega) hsz kk
  · exact nd_Ur (as := [vr (some p0)]) st (hCt.2.2.1 hk2) hS d mw_X12_unpack hl hk2 rfl q866 (Or.inl q865) q868 q867 (by decide) mw_X12_unpack.2.2.2.2 hfr (by omega) hsz kk
  · exact nd_Ur (as := [vr (some p0)]) st (hCt.2.2.2.1 hk2) hS d mw_X13_unpack hl hk2 rfl q866 (Or.inl q865) q967 q1036 (by decide) mw_X13_unpack.2.2.2.2 hfr (by omega) hsz kk
  · exact nd_Ur (as := [vr (some p0)]) st (hCt.2.2.2.2.1 hk2) hS d mw_X15_unpack hl hk2 rfl q866 (Or.inl q865) q996 q1038 (by decide) mw_X15_unpack.2.2.2.2 hfr (by omega) hsz kk
  · exact nd_Ur (as := [vr (some p0)]) st (hCt.2.2.2.2.2 hk2) hS d mw_X16_unpack hl hk2 rfl q866 (Or.inl q865) q1003 q1039 (by decide) mw_X16_unpack.2.2.2.2 hfr (by omega) hsz kk
def nc_write (l : Launch) (w : Wd) (b fr lo : Nat) (as : List AV) (h : Hp) (r : Res) : Prop :=
  (nd_Kd b = 6 → nd_C l w yX8_write cX8_write 4 none fr lo as h r) ∧
  (nd_Kd b = 7 → nd_C l w yX11_write cX11_write 5 none fr lo as h r) ∧
  (nd_Kd b = 8 → nd_C l w yX12_write cX12_write 4 none fr lo as h r) ∧
  (nd_Kd b = 9 → nd_C l w yX8_write cX8_write 4 none fr lo as h r) ∧
  (nd_Kd b = 11 → nd_C l w yX15_write cX15_write 5 none fr lo as h r) ∧
  (nd_Kd b = 12 → nd_C l w yX16_write cX16_write 5 none fr lo as h r)
theorem nd_v_write {l : Launch} {w : Wd} {r : Res} {h h' : Hp} {pc : Nat} {L : LL} {st0 : List AV} {y : MethodName} {cc : ByteArray} {nL fr lo : Nat} {ret : Option FieldType} {frc loc index : Nat} {b : Nat} {p0 : Nat} {p1 : Nat} {p2 : Int32} (st : List AV) (hCt : nc_write l w b frc loc [vr (some b), vr (some p0), vr (some p1), vi p2] h (.inl none, h')) (hS : st0 = List.reverse [vr (some p0), vr (some p1), vi p2] ++ vr (some b) :: st) (d : decode cc pc = .ok (.invokevirtual index, 3)) (hl : Cond.methodLink y.cls index ⟨"NotationDesk$Type", "write", "(LNotationDesk$Part;LNotationDesk$Writer;I)V"⟩ ∈ lw_all) (hk : [6, 7, 8, 9, 11, 12].contains (nd_Kd b) = true) (hfr : frc + 1 ≤ fr) (hlo : 8 + (5 + 11) + loc ≤ lo) (hsz : (st.map ac).sum ≤ 8) (kk : nd_V l w y cc nL ret fr lo r h' (pc + 3) L (st)) : nd_V l w y cc nL ret fr lo r h pc L st0 := by
  have hk2 : nd_Kd b = 6 ∨ nd_Kd b = 7 ∨ nd_Kd b = 8 ∨ nd_Kd b = 9 ∨ nd_Kd b = 11 ∨ nd_Kd b = 12 := by simpa using hk
  rcases hk2 with hk2 | hk2 | hk2 | hk2 | hk2 | hk2
  · exact nd_Uv (as := [vr (some p0), vr (some p1), vi p2]) st (hCt.1 hk2) hS d mw_X8_write hl hk2 rfl q1115 (Or.inl q1114) q1120 q1215 (by decide) mw_X8_write.2.2.2.2 hfr (by omega) hsz kk
  · exact nd_Uv (as := [vr (some p0), vr (some p1), vi p2]) st (hCt.2.1 hk2) hS d mw_X11_write hl hk2 rfl q1115 (Or.inl q1114) q1159 q1217 (by decide) mw_X11_write.2.2.2.2 hfr (by omega) hsz kk
  · exact nd_Uv (as := [vr (some p0), vr (some p1), vi p2]) st (hCt.2.2.1 hk2) hS d mw_X12_write hl hk2 rfl q1115 (Or.inl q1114) q1117 q1116 (by decide) mw_X12_write.2.2.2.2 hfr (by omega) hsz kk
  · exact nd_Uv (as := [vr (some p0), vr (some p1), vi p2]) st (hCt.2.2.2.1 hk2) hS d mw_X8_write hl hk2 rfl q1115 (Or.inl q1114) q1120 q1216 (by decide) mw_X8_write.2.2.2.2 hfr (by omega) hsz kk
  · exact nd_Uv (as := [vr (some p0), vr (some p1), vi p2]) st (hCt.2.2.2.2.1 hk2) hS d mw_X15_write hl hk2 rfl q1115 (Or.inl q1114) q1207 q1218 (by decide) mw_X15_write.2.2.2.2 hfr (by omega) hsz kk
  · exact nd_Uv (as := [vr (some p0), vr (some p1), vi p2]) st (hCt.2.2.2.2.2 hk2) hS d mw_X16_write hl hk2 rfl q1115 (Or.inl q1114) q1211 q1219 (by decide) mw_X16_write.2.2.2.2 hfr (by omega) hsz kk
def nc_isChoice (l : Launch) (w : Wd) (b fr lo : Nat) (as : List AV) (h : Hp) (r : Res) : Prop :=
  (nd_Kd b = 6 → nd_C l w yX7_isChoice cX7_isChoice 1 (some .boolean) fr lo as h r) ∧
  (nd_Kd b = 7 → nd_C l w yX7_isChoice cX7_isChoice 1 (some .boolean) fr lo as h r) ∧
  (nd_Kd b = 8 → nd_C l w yX12_isChoice cX12_isChoice 1 (some .boolean) fr lo as h r) ∧
  (nd_Kd b = 9 → nd_C l w yX7_isChoice cX7_isChoice 1 (some .boolean) fr lo as h r) ∧
  (nd_Kd b = 11 → nd_C l w yX7_isChoice cX7_isChoice 1 (some .boolean) fr lo as h r) ∧
  (nd_Kd b = 12 → nd_C l w yX7_isChoice cX7_isChoice 1 (some .boolean) fr lo as h r)
theorem nd_v_isChoice {l : Launch} {w : Wd} {r : Res} {h h' : Hp} {pc : Nat} {L : LL} {st0 : List AV} {y : MethodName} {cc : ByteArray} {nL fr lo : Nat} {ret : Option FieldType} {frc loc index : Nat} {b : Nat} {v : Int32} (st : List AV) (hCt : nc_isChoice l w b frc loc [vr (some b)] h (.inl (some (vi v)), h')) (hS : st0 = List.reverse [] ++ vr (some b) :: st) (d : decode cc pc = .ok (.invokevirtual index, 3)) (hl : Cond.methodLink y.cls index ⟨"NotationDesk$Type", "isChoice", "()Z"⟩ ∈ lw_all) (hk : [6, 7, 8, 9, 11, 12].contains (nd_Kd b) = true) (hfr : frc + 1 ≤ fr) (hlo : 8 + (1 + 11) + loc ≤ lo) (hsz : (st.map ac).sum ≤ 8) (kk : nd_V l w y cc nL ret fr lo r h' (pc + 3) L (vi v :: st)) : nd_V l w y cc nL ret fr lo r h pc L st0 := by
  have hk2 : nd_Kd b = 6 ∨ nd_Kd b = 7 ∨ nd_Kd b = 8 ∨ nd_Kd b = 9 ∨ nd_Kd b = 11 ∨ nd_Kd b = 12 := by simpa using hk
  rcases hk2 with hk2 | hk2 | hk2 | hk2 | hk2 | hk2
  · exact nd_Ui (as := []) st (hCt.1 hk2) hS d mw_X7_isChoice hl hk2 rfl q662 (Or.inr ⟨q661, _, _, _, q671⟩) q661 q666 (by decide) mw_X7_isChoice.2.2.2.2 hfr (by omega) hsz kk
  · exact nd_Ui (as := []) st (hCt.2.1 hk2) hS d mw_X7_isChoice hl hk2 rfl q662 (Or.inr ⟨q661, _, _, _, q671⟩) q661 q668 (by decide) mw_X7_isChoice.2.2.2.2 hfr (by omega) hsz kk
  · exact nd_Ui (as := []) st (hCt.2.2.1 hk2) hS d mw_X12_isChoice hl hk2 rfl q662 (Or.inr ⟨q661, _, _, _, q671⟩) q664 q663 (by decide) mw_X12_isChoice.2.2.2.2 hfr (by omega) hsz kk
  · exact nd_Ui (as := []) st (hCt.2.2.2.1 hk2) hS d mw_X7_isChoice hl hk2 rfl q662 (Or.inr ⟨q661, _, _, _, q671⟩) q661 q667 (by decide) mw_X7_isChoice.2.2.2.2 hfr (by omega) hsz kk
  · exact nd_Ui (as := []) st (hCt.2.2.2.2.1 hk2) hS d mw_X7_isChoice hl hk2 rfl q662 (Or.inr ⟨q661, _, _, _, q671⟩) q661 q669 (by decide) mw_X7_isChoice.2.2.2.2 hfr (by omega) hsz kk
  · exact nd_Ui (as := []) st (hCt.2.2.2.2.2 hk2) hS d mw_X7_isChoice hl hk2 rfl q662 (Or.inr ⟨q661, _, _, _, q671⟩) q661 q670 (by decide) mw_X7_isChoice.2.2.2.2 hfr (by omega) hsz kk
def nc_readContent (l : Launch) (w : Wd) (b fr lo : Nat) (as : List AV) (h : Hp) (r : Res) : Prop :=
  (nd_Kd b = 6 → nd_C l w yX9_readContent cX9_readContent 5 (some (.object "NotationDesk$Part")) fr lo as h r) ∧
  (nd_Kd b = 9 → nd_C l w yX13_readContent cX13_readContent 5 (some (.object "NotationDesk$Part")) fr lo as h r)
theorem nd_v_readContent {l : Launch} {w : Wd} {r : Res} {h h' : Hp} {pc : Nat} {L : LL} {st0 : List AV} {y : MethodName} {cc : ByteArray} {nL fr lo : Nat} {ret : Option FieldType} {frc loc index : Nat} {b : Nat} {p0 : Nat} {p1 : Int32} {v : Option Nat} (st : List AV) (hCt : nc_readContent l w b frc loc [vr (some b), vr (some p0), vi p1] h (.inl (some (vr v)), h')) (hS : st0 = List.reverse [vr (some p0), vi p1] ++ vr (some b) :: st) (d : decode cc pc = .ok (.invokevirtual index, 3)) (hl : Cond.methodLink y.cls index ⟨"NotationDesk$Simple", "readContent", "(LNotationDesk$Source;I)LNotationDesk$Part;"⟩ ∈ lw_all) (hk : [6, 9].contains (nd_Kd b) = true) (hfr : frc + 1 ≤ fr) (hlo : 8 + (5 + 11) + loc ≤ lo) (hsz : (st.map ac).sum ≤ 8) (kk : (∀ b, v = some b → nd_okT (some (.object "NotationDesk$Part")) (nd_Kd b) = true) → nd_V l w y cc nL ret fr lo r h' (pc + 3) L (vr v :: st)) : nd_V l w y cc nL ret fr lo r h pc L st0 := by
  have hk2 : nd_Kd b = 6 ∨ nd_Kd b = 9 := by simpa using hk
  rcases hk2 with hk2 | hk2
  · exact nd_Ur (as := [vr (some p0), vi p1]) st (hCt.1 hk2) hS d mw_X9_readContent hl hk2 rfl q1064 (Or.inl q1063) q1066 q1065 (by decide) mw_X9_readContent.2.2.2.2 hfr (by omega) hsz kk
  · exact nd_Ur (as := [vr (some p0), vi p1]) st (hCt.2 hk2) hS d mw_X13_readContent hl hk2 rfl q1064 (Or.inl q1063) q1070 q1069 (by decide) mw_X13_readContent.2.2.2.2 hfr (by omega) hsz kk
def nc_content (l : Launch) (w : Wd) (b fr lo : Nat) (as : List AV) (h : Hp) (r : Res) : Prop :=
  (nd_Kd b = 6 → nd_C l w yX9_content cX9_content 2 (some .int) fr lo as h r) ∧
  (nd_Kd b = 9 → nd_C l w yX13_content cX13_content 2 (some .int) fr lo as h r)
theorem nd_v_content {l : Launch} {w : Wd} {r : Res} {h h' : Hp} {pc : Nat} {L : LL} {st0 : List AV} {y : MethodName} {cc : ByteArray} {nL fr lo : Nat} {ret : Option FieldType} {frc loc index : Nat} {b : Nat} {p0 : Nat} {v : Int32} (st : List AV) (hCt : nc_content l w b frc loc [vr (some b), vr (some p0)] h (.inl (some (vi v)), h')) (hS : st0 = List.reverse [vr (some p0)] ++ vr (some b) :: st) (d : decode cc pc = .ok (.invokevirtual index, 3)) (hl : Cond.methodLink y.cls index ⟨"NotationDesk$Simple", "content", "(LNotationDesk$Part;)I"⟩ ∈ lw_all) (hk : [6, 9].contains (nd_Kd b) = true) (hfr : frc + 1 ≤ fr) (hlo : 8 + (2 + 11) + loc ≤ lo) (hsz : (st.map ac).sum ≤ 8) (kk : nd_V l w y cc nL ret fr lo r h' (pc + 3) L (vi v :: st)) : nd_V l w y cc nL ret fr lo r h pc L st0 := by
  have hk2 : nd_Kd b = 6 ∨ nd_Kd b = 9 := by simpa using hk
  rcases hk2 with hk2 | hk2
  · exact nd_Ui (as := [vr (some p0)]) st (hCt.1 hk2) hS d mw_X9_content hl hk2 rfl q1124 (Or.inl q1123) q1126 q1125 (by decide) mw_X9_content.2.2.2.2 hfr (by omega) hsz kk
  · exact nd_Ui (as := [vr (some p0)]) st (hCt.2 hk2) hS d mw_X13_content hl hk2 rfl q1124 (Or.inl q1123) q1129 q1128 (by decide) mw_X13_content.2.2.2.2 hfr (by omega) hsz kk
def nc_writeContent (l : Launch) (w : Wd) (b fr lo : Nat) (as : List AV) (h : Hp) (r : Res) : Prop :=
  (nd_Kd b = 6 → nd_C l w yX9_writeContent cX9_writeContent 3 none fr lo as h r) ∧
  (nd_Kd b = 9 → nd_C l w yX13_writeContent cX13_writeContent 4 none fr lo as h r)
theorem nd_v_writeContent {l : Launch} {w : Wd} {r : Res} {h h' : Hp} {pc : Nat} {L : LL} {st0 : List AV} {y : MethodName} {cc : ByteArray} {nL fr lo : Nat} {ret : Option FieldType} {frc loc index : Nat} {b : Nat} {p0 : Nat} {p1 : Nat} (st : List AV) (hCt : nc_writeContent l w b frc loc [vr (some b), vr (some p0), vr (some p1)] h (.inl none, h')) (hS : st0 = List.reverse [vr (some p0), vr (some p1)] ++ vr (some b) :: st) (d : decode cc pc = .ok (.invokevirtual index, 3)) (hl : Cond.methodLink y.cls index ⟨"NotationDesk$Simple", "writeContent", "(LNotationDesk$Part;LNotationDesk$Writer;)V"⟩ ∈ lw_all) (hk : [6, 9].contains (nd_Kd b) = true) (hfr : frc + 1 ≤ fr) (hlo : 8 + (4 + 11) + loc ≤ lo) (hsz : (st.map ac).sum ≤ 8) (kk : nd_V l w y cc nL ret fr lo r h' (pc + 3) L (st)) : nd_V l w y cc nL ret fr lo r h pc L st0 := by
  have hk2 : nd_Kd b = 6 ∨ nd_Kd b = 9 := by simpa using hk
  rcases hk2 with hk2 | hk2
  · exact nd_Uv (as := [vr (some p0), vr (some p1)]) st (hCt.1 hk2) hS d mw_X9_writeContent hl hk2 rfl q1145 (Or.inl q1144) q1147 q1146 (by decide) mw_X9_writeContent.2.2.2.2 hfr (by omega) hsz kk
  · exact nd_Uv (as := [vr (some p0), vr (some p1)]) st (hCt.2 hk2) hS d mw_X13_writeContent hl hk2 rfl q1145 (Or.inl q1144) q1156 q1155 (by decide) mw_X13_writeContent.2.2.2.2 hfr (by omega) hsz kk
