/-! pool facts (printed by tools/emit.py) -/
set_option maxRecDepth 100000
def rows11 : List (Nat × Nat × Nat × Nat) := [(1101, 1, 0, 740), (1114, 2, 0, 800), (1115, 3, 0, 200), (1116, 4, 0, 320), (1117, 5, 0, 1600), (1118, 6, 3, 12), (1119, 7, 3, 12), (1120, 8, 3, 24), (1121, 9, 1, 2), (1124, 10, 0, 12), (1125, 11, 0, 12), (1126, 12, 0, 12), (1127, 13, 0, 12), (1128, 14, 0, 360), (1129, 15, 0, 12), (1130, 16, 0, 12), (1131, 17, 0, 30), (1132, 18, 0, 12), (1143, 19, 0, 6), (1144, 20, 0, 12), (1146, 21, 0, 7), (1147, 22, 0, 7), (1148, 23, 0, 7), (1149, 24, 0, 7), (1153, 25, 0, 12), (1154, 26, 0, 12), (1156, 27, 0, 12), (1157, 28, 0, 12), (1158, 29, 0, 6), (1159, 30, 0, 6), (1160, 31, 0, 6), (1164, 32, 0, 64), (1165, 33, 0, 64), (1166, 34, 0, 64), (1167, 35, 0, 64), (1168, 36, 0, 3904), (1169, 37, 0, 3904), (1172, 38, 0, 192), (1177, 39, 0, 576), (1178, 40, 0, 3), (1179, 41, 0, 3), (1180, 42, 0, 3), (1185, 43, 0, 240), (1186, 44, 0, 240)]
theorem pd_11 : ∀ j, j < gN 11 → (parseFieldDescriptor (gT 11 j).2.2.1).isSome = true := by decide +kernel
theorem gFi_X14_126_11 : GFi RX14 126 11 1175 := ⟨75, ⟨RX14, TX14, 91, "PailRowModel", rfl, by decide, in_X14, Or.inl q1691, Or.inl rfl⟩, by decide, by decide +kernel⟩
theorem gFi_X14_148_11 : GFi RX14 148 11 1100 := ⟨0, ⟨RX14, TX14, 91, "PailRowModel", rfl, by decide, in_X14, Or.inl q1616, Or.inl rfl⟩, by decide, by decide +kernel⟩
theorem gFi_X14_151_11 : GFi RX14 151 11 1102 := ⟨2, ⟨RX14, TX14, 91, "PailRowModel", rfl, by decide, in_X14, Or.inl q1618, Or.inl rfl⟩, by decide, by decide +kernel⟩
theorem gFi_X14_158_11 : GFi RX14 158 11 1103 := ⟨3, ⟨RX14, TX14, 91, "PailRowModel", rfl, by decide, in_X14, Or.inl q1619, Or.inl rfl⟩, by decide, by decide +kernel⟩
theorem gFi_X14_161_11 : GFi RX14 161 11 1105 := ⟨5, ⟨RX14, TX14, 91, "PailRowModel", rfl, by decide, in_X14, Or.inl q1621, Or.inl rfl⟩, by decide, by decide +kernel⟩
theorem gFi_X14_164_11 : GFi RX14 164 11 1106 := ⟨6, ⟨RX14, TX14, 91, "PailRowModel", rfl, by decide, in_X14, Or.inl q1622, Or.inl rfl⟩, by decide, by decide +kernel⟩
theorem gFi_X14_167_11 : GFi RX14 167 11 1104 := ⟨4, ⟨RX14, TX14, 91, "PailRowModel", rfl, by decide, in_X14, Or.inl q1620, Or.inl rfl⟩, by decide, by decide +kernel⟩
theorem gFi_X14_170_11 : GFi RX14 170 11 1107 := ⟨7, ⟨RX14, TX14, 91, "PailRowModel", rfl, by decide, in_X14, Or.inl q1623, Or.inl rfl⟩, by decide, by decide +kernel⟩
theorem gFi_X14_180_11 : GFi RX14 180 11 1109 := ⟨9, ⟨RX14, TX14, 91, "PailRowModel", rfl, by decide, in_X14, Or.inl q1625, Or.inl rfl⟩, by decide, by decide +kernel⟩
theorem gFi_X14_187_11 : GFi RX14 187 11 1108 := ⟨8, ⟨RX14, TX14, 91, "PailRowModel", rfl, by decide, in_X14, Or.inl q1624, Or.inl rfl⟩, by decide, by decide +kernel⟩
theorem gFi_X14_210_11 : GFi RX14 210 11 1110 := ⟨10, ⟨RX14, TX14, 91, "PailRowModel", rfl, by decide, in_X14, Or.inl q1626, Or.inl rfl⟩, by decide, by decide +kernel⟩
theorem gFi_X14_213_11 : GFi RX14 213 11 1111 := ⟨11, ⟨RX14, TX14, 91, "PailRowModel", rfl, by decide, in_X14, Or.inl q1627, Or.inl rfl⟩, by decide, by decide +kernel⟩
theorem gFi_X14_223_11 : GFi RX14 223 11 1113 := ⟨13, ⟨RX14, TX14, 91, "PailRowModel", rfl, by decide, in_X14, Or.inl q1629, Or.inl rfl⟩, by decide, by decide +kernel⟩
theorem gFi_X14_239_11 : GFi RX14 239 11 1122 := ⟨22, ⟨RX14, TX14, 91, "PailRowModel", rfl, by decide, in_X14, Or.inl q1638, Or.inl rfl⟩, by decide, by decide +kernel⟩
theorem gFi_X14_255_11 : GFi RX14 255 11 1123 := ⟨23, ⟨RX14, TX14, 91, "PailRowModel", rfl, by decide, in_X14, Or.inl q1639, Or.inl rfl⟩, by decide, by decide +kernel⟩
theorem gFi_X14_301_11 : GFi RX14 301 11 1134 := ⟨34, ⟨RX14, TX14, 91, "PailRowModel", rfl, by decide, in_X14, Or.inl q1650, Or.inl rfl⟩, by decide, by decide +kernel⟩
theorem gFi_X14_304_11 : GFi RX14 304 11 1133 := ⟨33, ⟨RX14, TX14, 91, "PailRowModel", rfl, by decide, in_X14, Or.inl q1649, Or.inl rfl⟩, by decide, by decide +kernel⟩
theorem gFi_X14_307_11 : GFi RX14 307 11 1136 := ⟨36, ⟨RX14, TX14, 91, "PailRowModel", rfl, by decide, in_X14, Or.inl q1652, Or.inl rfl⟩, by decide, by decide +kernel⟩
theorem gFi_X14_310_11 : GFi RX14 310 11 1137 := ⟨37, ⟨RX14, TX14, 91, "PailRowModel", rfl, by decide, in_X14, Or.inl q1653, Or.inl rfl⟩, by decide, by decide +kernel⟩
theorem gFi_X14_313_11 : GFi RX14 313 11 1138 := ⟨38, ⟨RX14, TX14, 91, "PailRowModel", rfl, by decide, in_X14, Or.inl q1654, Or.inl rfl⟩, by decide, by decide +kernel⟩
theorem gFi_X14_316_11 : GFi RX14 316 11 1139 := ⟨39, ⟨RX14, TX14, 91, "PailRowModel", rfl, by decide, in_X14, Or.inl q1655, Or.inl rfl⟩, by decide, by decide +kernel⟩
theorem gFi_X14_319_11 : GFi RX14 319 11 1140 := ⟨40, ⟨RX14, TX14, 91, "PailRowModel", rfl, by decide, in_X14, Or.inl q1656, Or.inl rfl⟩, by decide, by decide +kernel⟩
theorem gFi_X14_322_11 : GFi RX14 322 11 1141 := ⟨41, ⟨RX14, TX14, 91, "PailRowModel", rfl, by decide, in_X14, Or.inl q1657, Or.inl rfl⟩, by decide, by decide +kernel⟩
theorem gFi_X14_325_11 : GFi RX14 325 11 1142 := ⟨42, ⟨RX14, TX14, 91, "PailRowModel", rfl, by decide, in_X14, Or.inl q1658, Or.inl rfl⟩, by decide, by decide +kernel⟩
theorem gFi_X14_334_11 : GFi RX14 334 11 1135 := ⟨35, ⟨RX14, TX14, 91, "PailRowModel", rfl, by decide, in_X14, Or.inl q1651, Or.inl rfl⟩, by decide, by decide +kernel⟩
theorem gFi_X14_380_11 : GFi RX14 380 11 1145 := ⟨45, ⟨RX14, TX14, 91, "PailRowModel", rfl, by decide, in_X14, Or.inl q1661, Or.inl rfl⟩, by decide, by decide +kernel⟩
theorem gFi_X14_386_11 : GFi RX14 386 11 1150 := ⟨50, ⟨RX14, TX14, 91, "PailRowModel", rfl, by decide, in_X14, Or.inl q1666, Or.inl rfl⟩, by decide, by decide +kernel⟩
theorem gFi_X14_389_11 : GFi RX14 389 11 1152 := ⟨52, ⟨RX14, TX14, 91, "PailRowModel", rfl, by decide, in_X14, Or.inl q1668, Or.inl rfl⟩, by decide, by decide +kernel⟩
theorem gFi_X14_396_11 : GFi RX14 396 11 1151 := ⟨51, ⟨RX14, TX14, 91, "PailRowModel", rfl, by decide, in_X14, Or.inl q1667, Or.inl rfl⟩, by decide, by decide +kernel⟩
theorem gFi_X14_405_11 : GFi RX14 405 11 1155 := ⟨55, ⟨RX14, TX14, 91, "PailRowModel", rfl, by decide, in_X14, Or.inl q1671, Or.inl rfl⟩, by decide, by decide +kernel⟩
theorem gFi_X14_411_11 : GFi RX14 411 11 1161 := ⟨61, ⟨RX14, TX14, 91, "PailRowModel", rfl, by decide, in_X14, Or.inl q1677, Or.inl rfl⟩, by decide, by decide +kernel⟩
theorem gFi_X14_414_11 : GFi RX14 414 11 1162 := ⟨62, ⟨RX14, TX14, 91, "PailRowModel", rfl, by decide, in_X14, Or.inl q1678, Or.inl rfl⟩, by decide, by decide +kernel⟩
theorem gFi_X14_420_11 : GFi RX14 420 11 1163 := ⟨63, ⟨RX14, TX14, 91, "PailRowModel", rfl, by decide, in_X14, Or.inl q1679, Or.inl rfl⟩, by decide, by decide +kernel⟩
theorem gFi_X14_423_11 : GFi RX14 423 11 1170 := ⟨70, ⟨RX14, TX14, 91, "PailRowModel", rfl, by decide, in_X14, Or.inl q1686, Or.inl rfl⟩, by decide, by decide +kernel⟩
theorem gFi_X14_439_11 : GFi RX14 439 11 1171 := ⟨71, ⟨RX14, TX14, 91, "PailRowModel", rfl, by decide, in_X14, Or.inl q1687, Or.inl rfl⟩, by decide, by decide +kernel⟩
theorem gFi_X14_458_11 : GFi RX14 458 11 1176 := ⟨76, ⟨RX14, TX14, 91, "PailRowModel", rfl, by decide, in_X14, Or.inl q1692, Or.inl rfl⟩, by decide, by decide +kernel⟩
theorem gFi_X14_461_11 : GFi RX14 461 11 1173 := ⟨73, ⟨RX14, TX14, 91, "PailRowModel", rfl, by decide, in_X14, Or.inl q1689, Or.inl rfl⟩, by decide, by decide +kernel⟩
theorem gFi_X14_464_11 : GFi RX14 464 11 1174 := ⟨74, ⟨RX14, TX14, 91, "PailRowModel", rfl, by decide, in_X14, Or.inl q1690, Or.inl rfl⟩, by decide, by decide +kernel⟩
theorem gFi_X14_467_11 : GFi RX14 467 11 1182 := ⟨82, ⟨RX14, TX14, 91, "PailRowModel", rfl, by decide, in_X14, Or.inl q1698, Or.inl rfl⟩, by decide, by decide +kernel⟩
theorem gFi_X14_470_11 : GFi RX14 470 11 1181 := ⟨81, ⟨RX14, TX14, 91, "PailRowModel", rfl, by decide, in_X14, Or.inl q1697, Or.inl rfl⟩, by decide, by decide +kernel⟩
theorem gFi_X14_482_11 : GFi RX14 482 11 1183 := ⟨83, ⟨RX14, TX14, 91, "PailRowModel", rfl, by decide, in_X14, Or.inl q1699, Or.inl rfl⟩, by decide, by decide +kernel⟩
theorem gFi_X14_491_11 : GFi RX14 491 11 1184 := ⟨84, ⟨RX14, TX14, 91, "PailRowModel", rfl, by decide, in_X14, Or.inl q1700, Or.inl rfl⟩, by decide, by decide +kernel⟩
theorem gFi_X14_503_11 : GFi RX14 503 11 1187 := ⟨87, ⟨RX14, TX14, 91, "PailRowModel", rfl, by decide, in_X14, Or.inl q1703, Or.inl rfl⟩, by decide, by decide +kernel⟩
theorem gFi_X14_509_11 : GFi RX14 509 11 1190 := ⟨90, ⟨RX14, TX14, 91, "PailRowModel", rfl, by decide, in_X14, Or.inl q1706, Or.inl rfl⟩, by decide, by decide +kernel⟩
theorem gFi_X14_518_11 : GFi RX14 518 11 1188 := ⟨88, ⟨RX14, TX14, 91, "PailRowModel", rfl, by decide, in_X14, Or.inl q1704, Or.inl rfl⟩, by decide, by decide +kernel⟩
theorem gFi_X14_521_11 : GFi RX14 521 11 1189 := ⟨89, ⟨RX14, TX14, 91, "PailRowModel", rfl, by decide, in_X14, Or.inl q1705, Or.inl rfl⟩, by decide, by decide +kernel⟩
theorem gFj_X14_183_11 : GFj RX14 183 11 1112 := ⟨12, ⟨RX14, TX14, 91, "PailRowModel", rfl, by decide, in_X14, Or.inl q1628, Or.inl rfl⟩, by decide, by decide +kernel⟩
theorem gFx_X14_102_11 : GFx RX14 102 11 1160 := ⟨60, ⟨RX14, TX14, 91, "PailRowModel", rfl, by decide, in_X14, Or.inl q1676, Or.inl rfl⟩, by decide, by decide +kernel⟩
theorem gFx_X14_105_11 : GFx RX14 105 11 1164 := ⟨64, ⟨RX14, TX14, 91, "PailRowModel", rfl, by decide, in_X14, Or.inl q1680, Or.inl rfl⟩, by decide, by decide +kernel⟩
theorem gFx_X14_108_11 : GFx RX14 108 11 1165 := ⟨65, ⟨RX14, TX14, 91, "PailRowModel", rfl, by decide, in_X14, Or.inl q1681, Or.inl rfl⟩, by decide, by decide +kernel⟩
theorem gFx_X14_111_11 : GFx RX14 111 11 1166 := ⟨66, ⟨RX14, TX14, 91, "PailRowModel", rfl, by decide, in_X14, Or.inl q1682, Or.inl rfl⟩, by decide, by decide +kernel⟩
theorem gFx_X14_114_11 : GFx RX14 114 11 1167 := ⟨67, ⟨RX14, TX14, 91, "PailRowModel", rfl, by decide, in_X14, Or.inl q1683, Or.inl rfl⟩, by decide, by decide +kernel⟩
theorem gFx_X14_117_11 : GFx RX14 117 11 1168 := ⟨68, ⟨RX14, TX14, 91, "PailRowModel", rfl, by decide, in_X14, Or.inl q1684, Or.inl rfl⟩, by decide, by decide +kernel⟩
theorem gFx_X14_120_11 : GFx RX14 120 11 1169 := ⟨69, ⟨RX14, TX14, 91, "PailRowModel", rfl, by decide, in_X14, Or.inl q1685, Or.inl rfl⟩, by decide, by decide +kernel⟩
theorem gFx_X14_123_11 : GFx RX14 123 11 1172 := ⟨72, ⟨RX14, TX14, 91, "PailRowModel", rfl, by decide, in_X14, Or.inl q1688, Or.inl rfl⟩, by decide, by decide +kernel⟩
theorem gFx_X14_130_11 : GFx RX14 130 11 1177 := ⟨77, ⟨RX14, TX14, 91, "PailRowModel", rfl, by decide, in_X14, Or.inl q1693, Or.inl rfl⟩, by decide, by decide +kernel⟩
theorem gFx_X14_133_11 : GFx RX14 133 11 1178 := ⟨78, ⟨RX14, TX14, 91, "PailRowModel", rfl, by decide, in_X14, Or.inl q1694, Or.inl rfl⟩, by decide, by decide +kernel⟩
theorem gFx_X14_136_11 : GFx RX14 136 11 1179 := ⟨79, ⟨RX14, TX14, 91, "PailRowModel", rfl, by decide, in_X14, Or.inl q1695, Or.inl rfl⟩, by decide, by decide +kernel⟩
theorem gFx_X14_139_11 : GFx RX14 139 11 1180 := ⟨80, ⟨RX14, TX14, 91, "PailRowModel", rfl, by decide, in_X14, Or.inl q1696, Or.inl rfl⟩, by decide, by decide +kernel⟩
theorem gFx_X14_13_11 : GFx RX14 13 11 1114 := ⟨14, ⟨RX14, TX14, 91, "PailRowModel", rfl, by decide, in_X14, Or.inl q1630, Or.inl rfl⟩, by decide, by decide +kernel⟩
theorem gFx_X14_142_11 : GFx RX14 142 11 1185 := ⟨85, ⟨RX14, TX14, 91, "PailRowModel", rfl, by decide, in_X14, Or.inl q1701, Or.inl rfl⟩, by decide, by decide +kernel⟩
theorem gFx_X14_145_11 : GFx RX14 145 11 1186 := ⟨86, ⟨RX14, TX14, 91, "PailRowModel", rfl, by decide, in_X14, Or.inl q1702, Or.inl rfl⟩, by decide, by decide +kernel⟩
theorem gFx_X14_16_11 : GFx RX14 16 11 1115 := ⟨15, ⟨RX14, TX14, 91, "PailRowModel", rfl, by decide, in_X14, Or.inl q1631, Or.inl rfl⟩, by decide, by decide +kernel⟩
theorem gFx_X14_19_11 : GFx RX14 19 11 1116 := ⟨16, ⟨RX14, TX14, 91, "PailRowModel", rfl, by decide, in_X14, Or.inl q1632, Or.inl rfl⟩, by decide, by decide +kernel⟩
theorem gFx_X14_22_11 : GFx RX14 22 11 1117 := ⟨17, ⟨RX14, TX14, 91, "PailRowModel", rfl, by decide, in_X14, Or.inl q1633, Or.inl rfl⟩, by decide, by decide +kernel⟩
theorem gFx_X14_25_11 : GFx RX14 25 11 1118 := ⟨18, ⟨RX14, TX14, 91, "PailRowModel", rfl, by decide, in_X14, Or.inl q1634, Or.inl rfl⟩, by decide, by decide +kernel⟩
theorem gFx_X14_29_11 : GFx RX14 29 11 1119 := ⟨19, ⟨RX14, TX14, 91, "PailRowModel", rfl, by decide, in_X14, Or.inl q1635, Or.inl rfl⟩, by decide, by decide +kernel⟩
theorem gFx_X14_32_11 : GFx RX14 32 11 1120 := ⟨20, ⟨RX14, TX14, 91, "PailRowModel", rfl, by decide, in_X14, Or.inl q1636, Or.inl rfl⟩, by decide, by decide +kernel⟩
theorem gFx_X14_35_11 : GFx RX14 35 11 1121 := ⟨21, ⟨RX14, TX14, 91, "PailRowModel", rfl, by decide, in_X14, Or.inl q1637, Or.inl rfl⟩, by decide, by decide +kernel⟩
theorem gFx_X14_39_11 : GFx RX14 39 11 1124 := ⟨24, ⟨RX14, TX14, 91, "PailRowModel", rfl, by decide, in_X14, Or.inl q1640, Or.inl rfl⟩, by decide, by decide +kernel⟩
theorem gFx_X14_42_11 : GFx RX14 42 11 1125 := ⟨25, ⟨RX14, TX14, 91, "PailRowModel", rfl, by decide, in_X14, Or.inl q1641, Or.inl rfl⟩, by decide, by decide +kernel⟩
theorem gFx_X14_45_11 : GFx RX14 45 11 1126 := ⟨26, ⟨RX14, TX14, 91, "PailRowModel", rfl, by decide, in_X14, Or.inl q1642, Or.inl rfl⟩, by decide, by decide +kernel⟩
theorem gFx_X14_48_11 : GFx RX14 48 11 1127 := ⟨27, ⟨RX14, TX14, 91, "PailRowModel", rfl, by decide, in_X14, Or.inl q1643, Or.inl rfl⟩, by decide, by decide +kernel⟩
theorem gFx_X14_51_11 : GFx RX14 51 11 1128 := ⟨28, ⟨RX14, TX14, 91, "PailRowModel", rfl, by decide, in_X14, Or.inl q1644, Or.inl rfl⟩, by decide, by decide +kernel⟩
theorem gFx_X14_54_11 : GFx RX14 54 11 1129 := ⟨29, ⟨RX14, TX14, 91, "PailRowModel", rfl, by decide, in_X14, Or.inl q1645, Or.inl rfl⟩, by decide, by decide +kernel⟩
theorem gFx_X14_57_11 : GFx RX14 57 11 1130 := ⟨30, ⟨RX14, TX14, 91, "PailRowModel", rfl, by decide, in_X14, Or.inl q1646, Or.inl rfl⟩, by decide, by decide +kernel⟩
theorem gFx_X14_60_11 : GFx RX14 60 11 1131 := ⟨31, ⟨RX14, TX14, 91, "PailRowModel", rfl, by decide, in_X14, Or.inl q1647, Or.inl rfl⟩, by decide, by decide +kernel⟩
theorem gFx_X14_63_11 : GFx RX14 63 11 1132 := ⟨32, ⟨RX14, TX14, 91, "PailRowModel", rfl, by decide, in_X14, Or.inl q1648, Or.inl rfl⟩, by decide, by decide +kernel⟩
theorem gFx_X14_66_11 : GFx RX14 66 11 1143 := ⟨43, ⟨RX14, TX14, 91, "PailRowModel", rfl, by decide, in_X14, Or.inl q1659, Or.inl rfl⟩, by decide, by decide +kernel⟩
theorem gFx_X14_69_11 : GFx RX14 69 11 1144 := ⟨44, ⟨RX14, TX14, 91, "PailRowModel", rfl, by decide, in_X14, Or.inl q1660, Or.inl rfl⟩, by decide, by decide +kernel⟩
theorem gFx_X14_72_11 : GFx RX14 72 11 1146 := ⟨46, ⟨RX14, TX14, 91, "PailRowModel", rfl, by decide, in_X14, Or.inl q1662, Or.inl rfl⟩, by decide, by decide +kernel⟩
theorem gFx_X14_75_11 : GFx RX14 75 11 1147 := ⟨47, ⟨RX14, TX14, 91, "PailRowModel", rfl, by decide, in_X14, Or.inl q1663, Or.inl rfl⟩, by decide, by decide +kernel⟩
theorem gFx_X14_78_11 : GFx RX14 78 11 1148 := ⟨48, ⟨RX14, TX14, 91, "PailRowModel", rfl, by decide, in_X14, Or.inl q1664, Or.inl rfl⟩, by decide, by decide +kernel⟩
theorem gFx_X14_7_11 : GFx RX14 7 11 1101 := ⟨1, ⟨RX14, TX14, 91, "PailRowModel", rfl, by decide, in_X14, Or.inl q1617, Or.inl rfl⟩, by decide, by decide +kernel⟩
theorem gFx_X14_81_11 : GFx RX14 81 11 1149 := ⟨49, ⟨RX14, TX14, 91, "PailRowModel", rfl, by decide, in_X14, Or.inl q1665, Or.inl rfl⟩, by decide, by decide +kernel⟩
theorem gFx_X14_84_11 : GFx RX14 84 11 1153 := ⟨53, ⟨RX14, TX14, 91, "PailRowModel", rfl, by decide, in_X14, Or.inl q1669, Or.inl rfl⟩, by decide, by decide +kernel⟩
theorem gFx_X14_87_11 : GFx RX14 87 11 1154 := ⟨54, ⟨RX14, TX14, 91, "PailRowModel", rfl, by decide, in_X14, Or.inl q1670, Or.inl rfl⟩, by decide, by decide +kernel⟩
theorem gFx_X14_90_11 : GFx RX14 90 11 1156 := ⟨56, ⟨RX14, TX14, 91, "PailRowModel", rfl, by decide, in_X14, Or.inl q1672, Or.inl rfl⟩, by decide, by decide +kernel⟩
theorem gFx_X14_93_11 : GFx RX14 93 11 1157 := ⟨57, ⟨RX14, TX14, 91, "PailRowModel", rfl, by decide, in_X14, Or.inl q1673, Or.inl rfl⟩, by decide, by decide +kernel⟩
theorem gFx_X14_96_11 : GFx RX14 96 11 1158 := ⟨58, ⟨RX14, TX14, 91, "PailRowModel", rfl, by decide, in_X14, Or.inl q1674, Or.inl rfl⟩, by decide, by decide +kernel⟩
theorem gFx_X14_99_11 : GFx RX14 99 11 1159 := ⟨59, ⟨RX14, TX14, 91, "PailRowModel", rfl, by decide, in_X14, Or.inl q1675, Or.inl rfl⟩, by decide, by decide +kernel⟩
theorem gPi_X14_126_11 : GPi RX14 126 11 1175 := ⟨75, ⟨⟨RX14, TX14, 91, "PailRowModel", rfl, by decide, in_X14, Or.inl q1691, Or.inl rfl⟩, by decide +kernel, by decide +kernel, pd_11⟩, by decide, by decide +kernel, by decide, by decide +kernel⟩
theorem gPi_X14_148_11 : GPi RX14 148 11 1100 := ⟨0, ⟨⟨RX14, TX14, 91, "PailRowModel", rfl, by decide, in_X14, Or.inl q1616, Or.inl rfl⟩, by decide +kernel, by decide +kernel, pd_11⟩, by decide, by decide +kernel, by decide, by decide +kernel⟩
theorem gPi_X14_151_11 : GPi RX14 151 11 1102 := ⟨2, ⟨⟨RX14, TX14, 91, "PailRowModel", rfl, by decide, in_X14, Or.inl q1618, Or.inl rfl⟩, by decide +kernel, by decide +kernel, pd_11⟩, by decide, by decide +kernel, by decide, by decide +kernel⟩
theorem gPi_X14_158_11 : GPi RX14 158 11 1103 := ⟨3, ⟨⟨RX14, TX14, 91, "PailRowModel", rfl, by decide, in_X14, Or.inl q1619, Or.inl rfl⟩, by decide +kernel, by decide +kernel, pd_11⟩, by decide, by decide +kernel, by decide, by decide +kernel⟩
theorem gPi_X14_161_11 : GPi RX14 161 11 1105 := ⟨5, ⟨⟨RX14, TX14, 91, "PailRowModel", rfl, by decide, in_X14, Or.inl q1621, Or.inl rfl⟩, by decide +kernel, by decide +kernel, pd_11⟩, by decide, by decide +kernel, by decide, by decide +kernel⟩
theorem gPi_X14_164_11 : GPi RX14 164 11 1106 := ⟨6, ⟨⟨RX14, TX14, 91, "PailRowModel", rfl, by decide, in_X14, Or.inl q1622, Or.inl rfl⟩, by decide +kernel, by decide +kernel, pd_11⟩, by decide, by decide +kernel, by decide, by decide +kernel⟩
theorem gPi_X14_167_11 : GPi RX14 167 11 1104 := ⟨4, ⟨⟨RX14, TX14, 91, "PailRowModel", rfl, by decide, in_X14, Or.inl q1620, Or.inl rfl⟩, by decide +kernel, by decide +kernel, pd_11⟩, by decide, by decide +kernel, by decide, by decide +kernel⟩
theorem gPi_X14_170_11 : GPi RX14 170 11 1107 := ⟨7, ⟨⟨RX14, TX14, 91, "PailRowModel", rfl, by decide, in_X14, Or.inl q1623, Or.inl rfl⟩, by decide +kernel, by decide +kernel, pd_11⟩, by decide, by decide +kernel, by decide, by decide +kernel⟩
theorem gPi_X14_180_11 : GPi RX14 180 11 1109 := ⟨9, ⟨⟨RX14, TX14, 91, "PailRowModel", rfl, by decide, in_X14, Or.inl q1625, Or.inl rfl⟩, by decide +kernel, by decide +kernel, pd_11⟩, by decide, by decide +kernel, by decide, by decide +kernel⟩
theorem gPi_X14_187_11 : GPi RX14 187 11 1108 := ⟨8, ⟨⟨RX14, TX14, 91, "PailRowModel", rfl, by decide, in_X14, Or.inl q1624, Or.inl rfl⟩, by decide +kernel, by decide +kernel, pd_11⟩, by decide, by decide +kernel, by decide, by decide +kernel⟩
theorem gPi_X14_210_11 : GPi RX14 210 11 1110 := ⟨10, ⟨⟨RX14, TX14, 91, "PailRowModel", rfl, by decide, in_X14, Or.inl q1626, Or.inl rfl⟩, by decide +kernel, by decide +kernel, pd_11⟩, by decide, by decide +kernel, by decide, by decide +kernel⟩
theorem gPi_X14_213_11 : GPi RX14 213 11 1111 := ⟨11, ⟨⟨RX14, TX14, 91, "PailRowModel", rfl, by decide, in_X14, Or.inl q1627, Or.inl rfl⟩, by decide +kernel, by decide +kernel, pd_11⟩, by decide, by decide +kernel, by decide, by decide +kernel⟩
theorem gPi_X14_223_11 : GPi RX14 223 11 1113 := ⟨13, ⟨⟨RX14, TX14, 91, "PailRowModel", rfl, by decide, in_X14, Or.inl q1629, Or.inl rfl⟩, by decide +kernel, by decide +kernel, pd_11⟩, by decide, by decide +kernel, by decide, by decide +kernel⟩
theorem gPi_X14_255_11 : GPi RX14 255 11 1123 := ⟨23, ⟨⟨RX14, TX14, 91, "PailRowModel", rfl, by decide, in_X14, Or.inl q1639, Or.inl rfl⟩, by decide +kernel, by decide +kernel, pd_11⟩, by decide, by decide +kernel, by decide, by decide +kernel⟩
theorem gPi_X14_301_11 : GPi RX14 301 11 1134 := ⟨34, ⟨⟨RX14, TX14, 91, "PailRowModel", rfl, by decide, in_X14, Or.inl q1650, Or.inl rfl⟩, by decide +kernel, by decide +kernel, pd_11⟩, by decide, by decide +kernel, by decide, by decide +kernel⟩
theorem gPi_X14_304_11 : GPi RX14 304 11 1133 := ⟨33, ⟨⟨RX14, TX14, 91, "PailRowModel", rfl, by decide, in_X14, Or.inl q1649, Or.inl rfl⟩, by decide +kernel, by decide +kernel, pd_11⟩, by decide, by decide +kernel, by decide, by decide +kernel⟩
theorem gPi_X14_307_11 : GPi RX14 307 11 1136 := ⟨36, ⟨⟨RX14, TX14, 91, "PailRowModel", rfl, by decide, in_X14, Or.inl q1652, Or.inl rfl⟩, by decide +kernel, by decide +kernel, pd_11⟩, by decide, by decide +kernel, by decide, by decide +kernel⟩
theorem gPi_X14_310_11 : GPi RX14 310 11 1137 := ⟨37, ⟨⟨RX14, TX14, 91, "PailRowModel", rfl, by decide, in_X14, Or.inl q1653, Or.inl rfl⟩, by decide +kernel, by decide +kernel, pd_11⟩, by decide, by decide +kernel, by decide, by decide +kernel⟩
theorem gPi_X14_313_11 : GPi RX14 313 11 1138 := ⟨38, ⟨⟨RX14, TX14, 91, "PailRowModel", rfl, by decide, in_X14, Or.inl q1654, Or.inl rfl⟩, by decide +kernel, by decide +kernel, pd_11⟩, by decide, by decide +kernel, by decide, by decide +kernel⟩
theorem gPi_X14_316_11 : GPi RX14 316 11 1139 := ⟨39, ⟨⟨RX14, TX14, 91, "PailRowModel", rfl, by decide, in_X14, Or.inl q1655, Or.inl rfl⟩, by decide +kernel, by decide +kernel, pd_11⟩, by decide, by decide +kernel, by decide, by decide +kernel⟩
theorem gPi_X14_319_11 : GPi RX14 319 11 1140 := ⟨40, ⟨⟨RX14, TX14, 91, "PailRowModel", rfl, by decide, in_X14, Or.inl q1656, Or.inl rfl⟩, by decide +kernel, by decide +kernel, pd_11⟩, by decide, by decide +kernel, by decide, by decide +kernel⟩
theorem gPi_X14_322_11 : GPi RX14 322 11 1141 := ⟨41, ⟨⟨RX14, TX14, 91, "PailRowModel", rfl, by decide, in_X14, Or.inl q1657, Or.inl rfl⟩, by decide +kernel, by decide +kernel, pd_11⟩, by decide, by decide +kernel, by decide, by decide +kernel⟩
theorem gPi_X14_325_11 : GPi RX14 325 11 1142 := ⟨42, ⟨⟨RX14, TX14, 91, "PailRowModel", rfl, by decide, in_X14, Or.inl q1658, Or.inl rfl⟩, by decide +kernel, by decide +kernel, pd_11⟩, by decide, by decide +kernel, by decide, by decide +kernel⟩
theorem gPi_X14_334_11 : GPi RX14 334 11 1135 := ⟨35, ⟨⟨RX14, TX14, 91, "PailRowModel", rfl, by decide, in_X14, Or.inl q1651, Or.inl rfl⟩, by decide +kernel, by decide +kernel, pd_11⟩, by decide, by decide +kernel, by decide, by decide +kernel⟩
theorem gPi_X14_380_11 : GPi RX14 380 11 1145 := ⟨45, ⟨⟨RX14, TX14, 91, "PailRowModel", rfl, by decide, in_X14, Or.inl q1661, Or.inl rfl⟩, by decide +kernel, by decide +kernel, pd_11⟩, by decide, by decide +kernel, by decide, by decide +kernel⟩
theorem gPi_X14_386_11 : GPi RX14 386 11 1150 := ⟨50, ⟨⟨RX14, TX14, 91, "PailRowModel", rfl, by decide, in_X14, Or.inl q1666, Or.inl rfl⟩, by decide +kernel, by decide +kernel, pd_11⟩, by decide, by decide +kernel, by decide, by decide +kernel⟩
theorem gPi_X14_389_11 : GPi RX14 389 11 1152 := ⟨52, ⟨⟨RX14, TX14, 91, "PailRowModel", rfl, by decide, in_X14, Or.inl q1668, Or.inl rfl⟩, by decide +kernel, by decide +kernel, pd_11⟩, by decide, by decide +kernel, by decide, by decide +kernel⟩
theorem gPi_X14_396_11 : GPi RX14 396 11 1151 := ⟨51, ⟨⟨RX14, TX14, 91, "PailRowModel", rfl, by decide, in_X14, Or.inl q1667, Or.inl rfl⟩, by decide +kernel, by decide +kernel, pd_11⟩, by decide, by decide +kernel, by decide, by decide +kernel⟩
theorem gPi_X14_405_11 : GPi RX14 405 11 1155 := ⟨55, ⟨⟨RX14, TX14, 91, "PailRowModel", rfl, by decide, in_X14, Or.inl q1671, Or.inl rfl⟩, by decide +kernel, by decide +kernel, pd_11⟩, by decide, by decide +kernel, by decide, by decide +kernel⟩
theorem gPi_X14_411_11 : GPi RX14 411 11 1161 := ⟨61, ⟨⟨RX14, TX14, 91, "PailRowModel", rfl, by decide, in_X14, Or.inl q1677, Or.inl rfl⟩, by decide +kernel, by decide +kernel, pd_11⟩, by decide, by decide +kernel, by decide, by decide +kernel⟩
theorem gPi_X14_414_11 : GPi RX14 414 11 1162 := ⟨62, ⟨⟨RX14, TX14, 91, "PailRowModel", rfl, by decide, in_X14, Or.inl q1678, Or.inl rfl⟩, by decide +kernel, by decide +kernel, pd_11⟩, by decide, by decide +kernel, by decide, by decide +kernel⟩
theorem gPi_X14_420_11 : GPi RX14 420 11 1163 := ⟨63, ⟨⟨RX14, TX14, 91, "PailRowModel", rfl, by decide, in_X14, Or.inl q1679, Or.inl rfl⟩, by decide +kernel, by decide +kernel, pd_11⟩, by decide, by decide +kernel, by decide, by decide +kernel⟩
theorem gPi_X14_423_11 : GPi RX14 423 11 1170 := ⟨70, ⟨⟨RX14, TX14, 91, "PailRowModel", rfl, by decide, in_X14, Or.inl q1686, Or.inl rfl⟩, by decide +kernel, by decide +kernel, pd_11⟩, by decide, by decide +kernel, by decide, by decide +kernel⟩
theorem gPi_X14_439_11 : GPi RX14 439 11 1171 := ⟨71, ⟨⟨RX14, TX14, 91, "PailRowModel", rfl, by decide, in_X14, Or.inl q1687, Or.inl rfl⟩, by decide +kernel, by decide +kernel, pd_11⟩, by decide, by decide +kernel, by decide, by decide +kernel⟩
theorem gPi_X14_461_11 : GPi RX14 461 11 1173 := ⟨73, ⟨⟨RX14, TX14, 91, "PailRowModel", rfl, by decide, in_X14, Or.inl q1689, Or.inl rfl⟩, by decide +kernel, by decide +kernel, pd_11⟩, by decide, by decide +kernel, by decide, by decide +kernel⟩
theorem gPi_X14_464_11 : GPi RX14 464 11 1174 := ⟨74, ⟨⟨RX14, TX14, 91, "PailRowModel", rfl, by decide, in_X14, Or.inl q1690, Or.inl rfl⟩, by decide +kernel, by decide +kernel, pd_11⟩, by decide, by decide +kernel, by decide, by decide +kernel⟩
theorem gPi_X14_467_11 : GPi RX14 467 11 1182 := ⟨82, ⟨⟨RX14, TX14, 91, "PailRowModel", rfl, by decide, in_X14, Or.inl q1698, Or.inl rfl⟩, by decide +kernel, by decide +kernel, pd_11⟩, by decide, by decide +kernel, by decide, by decide +kernel⟩
theorem gPi_X14_470_11 : GPi RX14 470 11 1181 := ⟨81, ⟨⟨RX14, TX14, 91, "PailRowModel", rfl, by decide, in_X14, Or.inl q1697, Or.inl rfl⟩, by decide +kernel, by decide +kernel, pd_11⟩, by decide, by decide +kernel, by decide, by decide +kernel⟩
theorem gPi_X14_482_11 : GPi RX14 482 11 1183 := ⟨83, ⟨⟨RX14, TX14, 91, "PailRowModel", rfl, by decide, in_X14, Or.inl q1699, Or.inl rfl⟩, by decide +kernel, by decide +kernel, pd_11⟩, by decide, by decide +kernel, by decide, by decide +kernel⟩
theorem gPi_X14_491_11 : GPi RX14 491 11 1184 := ⟨84, ⟨⟨RX14, TX14, 91, "PailRowModel", rfl, by decide, in_X14, Or.inl q1700, Or.inl rfl⟩, by decide +kernel, by decide +kernel, pd_11⟩, by decide, by decide +kernel, by decide, by decide +kernel⟩
theorem gPi_X14_503_11 : GPi RX14 503 11 1187 := ⟨87, ⟨⟨RX14, TX14, 91, "PailRowModel", rfl, by decide, in_X14, Or.inl q1703, Or.inl rfl⟩, by decide +kernel, by decide +kernel, pd_11⟩, by decide, by decide +kernel, by decide, by decide +kernel⟩
theorem gPi_X14_509_11 : GPi RX14 509 11 1190 := ⟨90, ⟨⟨RX14, TX14, 91, "PailRowModel", rfl, by decide, in_X14, Or.inl q1706, Or.inl rfl⟩, by decide +kernel, by decide +kernel, pd_11⟩, by decide, by decide +kernel, by decide, by decide +kernel⟩
theorem gPi_X14_518_11 : GPi RX14 518 11 1188 := ⟨88, ⟨⟨RX14, TX14, 91, "PailRowModel", rfl, by decide, in_X14, Or.inl q1704, Or.inl rfl⟩, by decide +kernel, by decide +kernel, pd_11⟩, by decide, by decide +kernel, by decide, by decide +kernel⟩
theorem gPi_X14_521_11 : GPi RX14 521 11 1189 := ⟨89, ⟨⟨RX14, TX14, 91, "PailRowModel", rfl, by decide, in_X14, Or.inl q1705, Or.inl rfl⟩, by decide +kernel, by decide +kernel, pd_11⟩, by decide, by decide +kernel, by decide, by decide +kernel⟩
theorem gPj_X14_183_11 : GPj RX14 183 11 1112 := ⟨12, ⟨⟨RX14, TX14, 91, "PailRowModel", rfl, by decide, in_X14, Or.inl q1628, Or.inl rfl⟩, by decide +kernel, by decide +kernel, pd_11⟩, by decide, by decide +kernel, by decide, by decide +kernel⟩
theorem gPz_X14_239_11 : GPz RX14 239 11 1122 := ⟨22, ⟨⟨RX14, TX14, 91, "PailRowModel", rfl, by decide, in_X14, Or.inl q1638, Or.inl rfl⟩, by decide +kernel, by decide +kernel, pd_11⟩, by decide, by decide +kernel, by decide, by decide +kernel⟩
theorem gPz_X14_458_11 : GPz RX14 458 11 1176 := ⟨76, ⟨⟨RX14, TX14, 91, "PailRowModel", rfl, by decide, in_X14, Or.inl q1692, Or.inl rfl⟩, by decide +kernel, by decide +kernel, pd_11⟩, by decide, by decide +kernel, by decide, by decide +kernel⟩
theorem hd_X14_aimed : yX14_aimed.cls = RX14 ∧ yX14_aimed.cls ≠ "java/lang/invoke/MethodHandle" ∧ yX14_aimed.cls ≠ "java/lang/invoke/VarHandle" ∧ (parseMethodDescriptor yX14_aimed.desc).map (fun d => d.parameters.length) = some 4 := by decide +kernel
theorem hd_X14_bad : yX14_bad.cls = RX14 ∧ yX14_bad.cls ≠ "java/lang/invoke/MethodHandle" ∧ yX14_bad.cls ≠ "java/lang/invoke/VarHandle" ∧ (parseMethodDescriptor yX14_bad.desc).map (fun d => d.parameters.length) = some 1 := by decide +kernel
theorem hd_X14_begin : yX14_begin.cls = RX14 ∧ yX14_begin.cls ≠ "java/lang/invoke/MethodHandle" ∧ yX14_begin.cls ≠ "java/lang/invoke/VarHandle" ∧ (parseMethodDescriptor yX14_begin.desc).map (fun d => d.parameters.length) = some 1 := by decide +kernel
theorem hd_X14_bringFire : yX14_bringFire.cls = RX14 ∧ yX14_bringFire.cls ≠ "java/lang/invoke/MethodHandle" ∧ yX14_bringFire.cls ≠ "java/lang/invoke/VarHandle" ∧ (parseMethodDescriptor yX14_bringFire.desc).map (fun d => d.parameters.length) = some 1 := by decide +kernel
theorem hd_X14_burning : yX14_burning.cls = RX14 ∧ yX14_burning.cls ≠ "java/lang/invoke/MethodHandle" ∧ yX14_burning.cls ≠ "java/lang/invoke/VarHandle" ∧ (parseMethodDescriptor yX14_burning.desc).map (fun d => d.parameters.length) = some 0 := by decide +kernel
theorem hd_X14_byteAt : yX14_byteAt.cls = RX14 ∧ yX14_byteAt.cls ≠ "java/lang/invoke/MethodHandle" ∧ yX14_byteAt.cls ≠ "java/lang/invoke/VarHandle" ∧ (parseMethodDescriptor yX14_byteAt.desc).map (fun d => d.parameters.length) = some 1 := by decide +kernel
theorem hd_X14_canThrow : yX14_canThrow.cls = RX14 ∧ yX14_canThrow.cls ≠ "java/lang/invoke/MethodHandle" ∧ yX14_canThrow.cls ≠ "java/lang/invoke/VarHandle" ∧ (parseMethodDescriptor yX14_canThrow.desc).map (fun d => d.parameters.length) = some 1 := by decide +kernel
theorem hd_X14_cells : yX14_cells.cls = RX14 ∧ yX14_cells.cls ≠ "java/lang/invoke/MethodHandle" ∧ yX14_cells.cls ≠ "java/lang/invoke/VarHandle" ∧ (parseMethodDescriptor yX14_cells.desc).map (fun d => d.parameters.length) = some 0 := by decide +kernel
theorem hd_X14_columns : yX14_columns.cls = RX14 ∧ yX14_columns.cls ≠ "java/lang/invoke/MethodHandle" ∧ yX14_columns.cls ≠ "java/lang/invoke/VarHandle" ∧ (parseMethodDescriptor yX14_columns.desc).map (fun d => d.parameters.length) = some 0 := by decide +kernel
theorem hd_X14_come : yX14_come.cls = RX14 ∧ yX14_come.cls ≠ "java/lang/invoke/MethodHandle" ∧ yX14_come.cls ≠ "java/lang/invoke/VarHandle" ∧ (parseMethodDescriptor yX14_come.desc).map (fun d => d.parameters.length) = some 1 := by decide +kernel
theorem hd_X14_draws : yX14_draws.cls = RX14 ∧ yX14_draws.cls ≠ "java/lang/invoke/MethodHandle" ∧ yX14_draws.cls ≠ "java/lang/invoke/VarHandle" ∧ (parseMethodDescriptor yX14_draws.desc).map (fun d => d.parameters.length) = some 0 := by decide +kernel
theorem hd_X14_finishes : yX14_finishes.cls = RX14 ∧ yX14_finishes.cls ≠ "java/lang/invoke/MethodHandle" ∧ yX14_finishes.cls ≠ "java/lang/invoke/VarHandle" ∧ (parseMethodDescriptor yX14_finishes.desc).map (fun d => d.parameters.length) = some 1 := by decide +kernel
theorem hd_X14_fires : yX14_fires.cls = RX14 ∧ yX14_fires.cls ≠ "java/lang/invoke/MethodHandle" ∧ yX14_fires.cls ≠ "java/lang/invoke/VarHandle" ∧ (parseMethodDescriptor yX14_fires.desc).map (fun d => d.parameters.length) = some 4 := by decide +kernel
theorem hd_X14_givesUp : yX14_givesUp.cls = RX14 ∧ yX14_givesUp.cls ≠ "java/lang/invoke/MethodHandle" ∧ yX14_givesUp.cls ≠ "java/lang/invoke/VarHandle" ∧ (parseMethodDescriptor yX14_givesUp.desc).map (fun d => d.parameters.length) = some 1 := by decide +kernel
theorem hd_X14_go : yX14_go.cls = RX14 ∧ yX14_go.cls ≠ "java/lang/invoke/MethodHandle" ∧ yX14_go.cls ≠ "java/lang/invoke/VarHandle" ∧ (parseMethodDescriptor yX14_go.desc).map (fun d => d.parameters.length) = some 0 := by decide +kernel
theorem hd_X14_has : yX14_has.cls = RX14 ∧ yX14_has.cls ≠ "java/lang/invoke/MethodHandle" ∧ yX14_has.cls ≠ "java/lang/invoke/VarHandle" ∧ (parseMethodDescriptor yX14_has.desc).map (fun d => d.parameters.length) = some 2 := by decide +kernel
theorem hd_X14_heatOf : yX14_heatOf.cls = RX14 ∧ yX14_heatOf.cls ≠ "java/lang/invoke/MethodHandle" ∧ yX14_heatOf.cls ≠ "java/lang/invoke/VarHandle" ∧ (parseMethodDescriptor yX14_heatOf.desc).map (fun d => d.parameters.length) = some 4 := by decide +kernel
theorem hd_X14_isAim : yX14_isAim.cls = RX14 ∧ yX14_isAim.cls ≠ "java/lang/invoke/MethodHandle" ∧ yX14_isAim.cls ≠ "java/lang/invoke/VarHandle" ∧ (parseMethodDescriptor yX14_isAim.desc).map (fun d => d.parameters.length) = some 1 := by decide +kernel
theorem hd_X14_isDigit : yX14_isDigit.cls = RX14 ∧ yX14_isDigit.cls ≠ "java/lang/invoke/MethodHandle" ∧ yX14_isDigit.cls ≠ "java/lang/invoke/VarHandle" ∧ (parseMethodDescriptor yX14_isDigit.desc).map (fun d => d.parameters.length) = some 1 := by decide +kernel
theorem hd_X14_isDrawn : yX14_isDrawn.cls = RX14 ∧ yX14_isDrawn.cls ≠ "java/lang/invoke/MethodHandle" ∧ yX14_isDrawn.cls ≠ "java/lang/invoke/VarHandle" ∧ (parseMethodDescriptor yX14_isDrawn.desc).map (fun d => d.parameters.length) = some 0 := by decide +kernel
theorem hd_X14_isIn : yX14_isIn.cls = RX14 ∧ yX14_isIn.cls ≠ "java/lang/invoke/MethodHandle" ∧ yX14_isIn.cls ≠ "java/lang/invoke/VarHandle" ∧ (parseMethodDescriptor yX14_isIn.desc).map (fun d => d.parameters.length) = some 3 := by decide +kernel
theorem hd_X14_isLetter : yX14_isLetter.cls = RX14 ∧ yX14_isLetter.cls ≠ "java/lang/invoke/MethodHandle" ∧ yX14_isLetter.cls ≠ "java/lang/invoke/VarHandle" ∧ (parseMethodDescriptor yX14_isLetter.desc).map (fun d => d.parameters.length) = some 1 := by decide +kernel
theorem hd_X14_isName : yX14_isName.cls = RX14 ∧ yX14_isName.cls ≠ "java/lang/invoke/MethodHandle" ∧ yX14_isName.cls ≠ "java/lang/invoke/VarHandle" ∧ (parseMethodDescriptor yX14_isName.desc).map (fun d => d.parameters.length) = some 0 := by decide +kernel
theorem hd_X14_isSign : yX14_isSign.cls = RX14 ∧ yX14_isSign.cls ≠ "java/lang/invoke/MethodHandle" ∧ yX14_isSign.cls ≠ "java/lang/invoke/VarHandle" ∧ (parseMethodDescriptor yX14_isSign.desc).map (fun d => d.parameters.length) = some 1 := by decide +kernel
theorem hd_X14_isSo : yX14_isSo.cls = RX14 ∧ yX14_isSo.cls ≠ "java/lang/invoke/MethodHandle" ∧ yX14_isSo.cls ≠ "java/lang/invoke/VarHandle" ∧ (parseMethodDescriptor yX14_isSo.desc).map (fun d => d.parameters.length) = some 2 := by decide +kernel
theorem hd_X14_isWord : yX14_isWord.cls = RX14 ∧ yX14_isWord.cls ≠ "java/lang/invoke/MethodHandle" ∧ yX14_isWord.cls ≠ "java/lang/invoke/VarHandle" ∧ (parseMethodDescriptor yX14_isWord.desc).map (fun d => d.parameters.length) = some 1 := by decide +kernel
theorem hd_X14_keepFire : yX14_keepFire.cls = RX14 ∧ yX14_keepFire.cls ≠ "java/lang/invoke/MethodHandle" ∧ yX14_keepFire.cls ≠ "java/lang/invoke/VarHandle" ∧ (parseMethodDescriptor yX14_keepFire.desc).map (fun d => d.parameters.length) = some 1 := by decide +kernel
theorem hd_X14_lay : yX14_lay.cls = RX14 ∧ yX14_lay.cls ≠ "java/lang/invoke/MethodHandle" ∧ yX14_lay.cls ≠ "java/lang/invoke/VarHandle" ∧ (parseMethodDescriptor yX14_lay.desc).map (fun d => d.parameters.length) = some 0 := by decide +kernel
theorem hd_X14_lays : yX14_lays.cls = RX14 ∧ yX14_lays.cls ≠ "java/lang/invoke/MethodHandle" ∧ yX14_lays.cls ≠ "java/lang/invoke/VarHandle" ∧ (parseMethodDescriptor yX14_lays.desc).map (fun d => d.parameters.length) = some 4 := by decide +kernel
theorem hd_X14_light : yX14_light.cls = RX14 ∧ yX14_light.cls ≠ "java/lang/invoke/MethodHandle" ∧ yX14_light.cls ≠ "java/lang/invoke/VarHandle" ∧ (parseMethodDescriptor yX14_light.desc).map (fun d => d.parameters.length) = some 0 := by decide +kernel
theorem hd_X14_longest : yX14_longest.cls = RX14 ∧ yX14_longest.cls ≠ "java/lang/invoke/MethodHandle" ∧ yX14_longest.cls ≠ "java/lang/invoke/VarHandle" ∧ (parseMethodDescriptor yX14_longest.desc).map (fun d => d.parameters.length) = some 1 := by decide +kernel
theorem hd_X14_manAtHand : yX14_manAtHand.cls = RX14 ∧ yX14_manAtHand.cls ≠ "java/lang/invoke/MethodHandle" ∧ yX14_manAtHand.cls ≠ "java/lang/invoke/VarHandle" ∧ (parseMethodDescriptor yX14_manAtHand.desc).map (fun d => d.parameters.length) = some 0 := by decide +kernel
theorem hd_X14_manOf : yX14_manOf.cls = RX14 ∧ yX14_manOf.cls ≠ "java/lang/invoke/MethodHandle" ∧ yX14_manOf.cls ≠ "java/lang/invoke/VarHandle" ∧ (parseMethodDescriptor yX14_manOf.desc).map (fun d => d.parameters.length) = some 2 := by decide +kernel
theorem hd_X14_men : yX14_men.cls = RX14 ∧ yX14_men.cls ≠ "java/lang/invoke/MethodHandle" ∧ yX14_men.cls ≠ "java/lang/invoke/VarHandle" ∧ (parseMethodDescriptor yX14_men.desc).map (fun d => d.parameters.length) = some 0 := by decide +kernel
theorem hd_X14_minute : yX14_minute.cls = RX14 ∧ yX14_minute.cls ≠ "java/lang/invoke/MethodHandle" ∧ yX14_minute.cls ≠ "java/lang/invoke/VarHandle" ∧ (parseMethodDescriptor yX14_minute.desc).map (fun d => d.parameters.length) = some 2 := by decide +kernel
theorem hd_X14_neighbour : yX14_neighbour.cls = RX14 ∧ yX14_neighbour.cls ≠ "java/lang/invoke/MethodHandle" ∧ yX14_neighbour.cls ≠ "java/lang/invoke/VarHandle" ∧ (parseMethodDescriptor yX14_neighbour.desc).map (fun d => d.parameters.length) = some 2 := by decide +kernel
theorem hd_X14_on : yX14_on.cls = RX14 ∧ yX14_on.cls ≠ "java/lang/invoke/MethodHandle" ∧ yX14_on.cls ≠ "java/lang/invoke/VarHandle" ∧ (parseMethodDescriptor yX14_on.desc).map (fun d => d.parameters.length) = some 2 := by decide +kernel
theorem hd_X14_periodOf : yX14_periodOf.cls = RX14 ∧ yX14_periodOf.cls ≠ "java/lang/invoke/MethodHandle" ∧ yX14_periodOf.cls ≠ "java/lang/invoke/VarHandle" ∧ (parseMethodDescriptor yX14_periodOf.desc).map (fun d => d.parameters.length) = some 1 := by decide +kernel
theorem hd_X14_push : yX14_push.cls = RX14 ∧ yX14_push.cls ≠ "java/lang/invoke/MethodHandle" ∧ yX14_push.cls ≠ "java/lang/invoke/VarHandle" ∧ (parseMethodDescriptor yX14_push.desc).map (fun d => d.parameters.length) = some 2 := by decide +kernel
theorem hd_X14_readAnd : yX14_readAnd.cls = RX14 ∧ yX14_readAnd.cls ≠ "java/lang/invoke/MethodHandle" ∧ yX14_readAnd.cls ≠ "java/lang/invoke/VarHandle" ∧ (parseMethodDescriptor yX14_readAnd.desc).map (fun d => d.parameters.length) = some 0 := by decide +kernel
theorem hd_X14_readBracket : yX14_readBracket.cls = RX14 ∧ yX14_readBracket.cls ≠ "java/lang/invoke/MethodHandle" ∧ yX14_readBracket.cls ≠ "java/lang/invoke/VarHandle" ∧ (parseMethodDescriptor yX14_readBracket.desc).map (fun d => d.parameters.length) = some 0 := by decide +kernel
theorem hd_X14_readBurn : yX14_readBurn.cls = RX14 ∧ yX14_readBurn.cls ≠ "java/lang/invoke/MethodHandle" ∧ yX14_readBurn.cls ≠ "java/lang/invoke/VarHandle" ∧ (parseMethodDescriptor yX14_readBurn.desc).map (fun d => d.parameters.length) = some 0 := by decide +kernel
theorem hd_X14_readCells : yX14_readCells.cls = RX14 ∧ yX14_readCells.cls ≠ "java/lang/invoke/MethodHandle" ∧ yX14_readCells.cls ≠ "java/lang/invoke/VarHandle" ∧ (parseMethodDescriptor yX14_readCells.desc).map (fun d => d.parameters.length) = some 0 := by decide +kernel
theorem hd_X14_readCompare : yX14_readCompare.cls = RX14 ∧ yX14_readCompare.cls ≠ "java/lang/invoke/MethodHandle" ∧ yX14_readCompare.cls ≠ "java/lang/invoke/VarHandle" ∧ (parseMethodDescriptor yX14_readCompare.desc).map (fun d => d.parameters.length) = some 1 := by decide +kernel
theorem hd_X14_readEnd : yX14_readEnd.cls = RX14 ∧ yX14_readEnd.cls ≠ "java/lang/invoke/MethodHandle" ∧ yX14_readEnd.cls ≠ "java/lang/invoke/VarHandle" ∧ (parseMethodDescriptor yX14_readEnd.desc).map (fun d => d.parameters.length) = some 0 := by decide +kernel
theorem hd_X14_readInto : yX14_readInto.cls = RX14 ∧ yX14_readInto.cls ≠ "java/lang/invoke/MethodHandle" ∧ yX14_readInto.cls ≠ "java/lang/invoke/VarHandle" ∧ (parseMethodDescriptor yX14_readInto.desc).map (fun d => d.parameters.length) = some 3 := by decide +kernel
theorem hd_X14_readLine : yX14_readLine.cls = RX14 ∧ yX14_readLine.cls ≠ "java/lang/invoke/MethodHandle" ∧ yX14_readLine.cls ≠ "java/lang/invoke/VarHandle" ∧ (parseMethodDescriptor yX14_readLine.desc).map (fun d => d.parameters.length) = some 0 := by decide +kernel
theorem hd_X14_readMan : yX14_readMan.cls = RX14 ∧ yX14_readMan.cls ≠ "java/lang/invoke/MethodHandle" ∧ yX14_readMan.cls ≠ "java/lang/invoke/VarHandle" ∧ (parseMethodDescriptor yX14_readMan.desc).map (fun d => d.parameters.length) = some 0 := by decide +kernel
theorem hd_X14_readMen : yX14_readMen.cls = RX14 ∧ yX14_readMen.cls ≠ "java/lang/invoke/MethodHandle" ∧ yX14_readMen.cls ≠ "java/lang/invoke/VarHandle" ∧ (parseMethodDescriptor yX14_readMen.desc).map (fun d => d.parameters.length) = some 2 := by decide +kernel
theorem hd_X14_readNot : yX14_readNot.cls = RX14 ∧ yX14_readNot.cls ≠ "java/lang/invoke/MethodHandle" ∧ yX14_readNot.cls ≠ "java/lang/invoke/VarHandle" ∧ (parseMethodDescriptor yX14_readNot.desc).map (fun d => d.parameters.length) = some 0 := by decide +kernel
theorem hd_X14_readNumber : yX14_readNumber.cls = RX14 ∧ yX14_readNumber.cls ≠ "java/lang/invoke/MethodHandle" ∧ yX14_readNumber.cls ≠ "java/lang/invoke/VarHandle" ∧ (parseMethodDescriptor yX14_readNumber.desc).map (fun d => d.parameters.length) = some 2 := by decide +kernel
theorem hd_X14_readOnce : yX14_readOnce.cls = RX14 ∧ yX14_readOnce.cls ≠ "java/lang/invoke/MethodHandle" ∧ yX14_readOnce.cls ≠ "java/lang/invoke/VarHandle" ∧ (parseMethodDescriptor yX14_readOnce.desc).map (fun d => d.parameters.length) = some 1 := by decide +kernel
theorem hd_X14_readOne : yX14_readOne.cls = RX14 ∧ yX14_readOne.cls ≠ "java/lang/invoke/MethodHandle" ∧ yX14_readOne.cls ≠ "java/lang/invoke/VarHandle" ∧ (parseMethodDescriptor yX14_readOne.desc).map (fun d => d.parameters.length) = some 0 := by decide +kernel
theorem hd_X14_readOr : yX14_readOr.cls = RX14 ∧ yX14_readOr.cls ≠ "java/lang/invoke/MethodHandle" ∧ yX14_readOr.cls ≠ "java/lang/invoke/VarHandle" ∧ (parseMethodDescriptor yX14_readOr.desc).map (fun d => d.parameters.length) = some 0 := by decide +kernel
theorem hd_X14_readTold : yX14_readTold.cls = RX14 ∧ yX14_readTold.cls ≠ "java/lang/invoke/MethodHandle" ∧ yX14_readTold.cls ≠ "java/lang/invoke/VarHandle" ∧ (parseMethodDescriptor yX14_readTold.desc).map (fun d => d.parameters.length) = some 0 := by decide +kernel
theorem hd_X14_refuse : yX14_refuse.cls = RX14 ∧ yX14_refuse.cls ≠ "java/lang/invoke/MethodHandle" ∧ yX14_refuse.cls ≠ "java/lang/invoke/VarHandle" ∧ (parseMethodDescriptor yX14_refuse.desc).map (fun d => d.parameters.length) = some 0 := by decide +kernel
theorem hd_X14_rowTick : yX14_rowTick.cls = RX14 ∧ yX14_rowTick.cls ≠ "java/lang/invoke/MethodHandle" ∧ yX14_rowTick.cls ≠ "java/lang/invoke/VarHandle" ∧ (parseMethodDescriptor yX14_rowTick.desc).map (fun d => d.parameters.length) = some 0 := by decide +kernel
theorem hd_X14_runTick : yX14_runTick.cls = RX14 ∧ yX14_runTick.cls ≠ "java/lang/invoke/MethodHandle" ∧ yX14_runTick.cls ≠ "java/lang/invoke/VarHandle" ∧ (parseMethodDescriptor yX14_runTick.desc).map (fun d => d.parameters.length) = some 0 := by decide +kernel
theorem hd_X14_shared : yX14_shared.cls = RX14 ∧ yX14_shared.cls ≠ "java/lang/invoke/MethodHandle" ∧ yX14_shared.cls ≠ "java/lang/invoke/VarHandle" ∧ (parseMethodDescriptor yX14_shared.desc).map (fun d => d.parameters.length) = some 2 := by decide +kernel
theorem hd_X14_shift : yX14_shift.cls = RX14 ∧ yX14_shift.cls ≠ "java/lang/invoke/MethodHandle" ∧ yX14_shift.cls ≠ "java/lang/invoke/VarHandle" ∧ (parseMethodDescriptor yX14_shift.desc).map (fun d => d.parameters.length) = some 1 := by decide +kernel
theorem hd_X14_spelt : yX14_spelt.cls = RX14 ∧ yX14_spelt.cls ≠ "java/lang/invoke/MethodHandle" ∧ yX14_spelt.cls ≠ "java/lang/invoke/VarHandle" ∧ (parseMethodDescriptor yX14_spelt.desc).map (fun d => d.parameters.length) = some 5 := by decide +kernel
theorem hd_X14_spend : yX14_spend.cls = RX14 ∧ yX14_spend.cls ≠ "java/lang/invoke/MethodHandle" ∧ yX14_spend.cls ≠ "java/lang/invoke/VarHandle" ∧ (parseMethodDescriptor yX14_spend.desc).map (fun d => d.parameters.length) = some 0 := by decide +kernel
theorem hd_X14_standard : yX14_standard.cls = RX14 ∧ yX14_standard.cls ≠ "java/lang/invoke/MethodHandle" ∧ yX14_standard.cls ≠ "java/lang/invoke/VarHandle" ∧ (parseMethodDescriptor yX14_standard.desc).map (fun d => d.parameters.length) = some 1 := by decide +kernel
theorem hd_X14_start : yX14_start.cls = RX14 ∧ yX14_start.cls ≠ "java/lang/invoke/MethodHandle" ∧ yX14_start.cls ≠ "java/lang/invoke/VarHandle" ∧ (parseMethodDescriptor yX14_start.desc).map (fun d => d.parameters.length) = some 2 := by decide +kernel
theorem hd_X14_take : yX14_take.cls = RX14 ∧ yX14_take.cls ≠ "java/lang/invoke/MethodHandle" ∧ yX14_take.cls ≠ "java/lang/invoke/VarHandle" ∧ (parseMethodDescriptor yX14_take.desc).map (fun d => d.parameters.length) = some 0 := by decide +kernel
theorem hd_X14_takesTeam : yX14_takesTeam.cls = RX14 ∧ yX14_takesTeam.cls ≠ "java/lang/invoke/MethodHandle" ∧ yX14_takesTeam.cls ≠ "java/lang/invoke/VarHandle" ∧ (parseMethodDescriptor yX14_takesTeam.desc).map (fun d => d.parameters.length) = some 3 := by decide +kernel
theorem hd_X14_takesUp : yX14_takesUp.cls = RX14 ∧ yX14_takesUp.cls ≠ "java/lang/invoke/MethodHandle" ∧ yX14_takesUp.cls ≠ "java/lang/invoke/VarHandle" ∧ (parseMethodDescriptor yX14_takesUp.desc).map (fun d => d.parameters.length) = some 1 := by decide +kernel
theorem hd_X14_teamTick : yX14_teamTick.cls = RX14 ∧ yX14_teamTick.cls ≠ "java/lang/invoke/MethodHandle" ∧ yX14_teamTick.cls ≠ "java/lang/invoke/VarHandle" ∧ (parseMethodDescriptor yX14_teamTick.desc).map (fun d => d.parameters.length) = some 0 := by decide +kernel
theorem hd_X14_throwsIn : yX14_throwsIn.cls = RX14 ∧ yX14_throwsIn.cls ≠ "java/lang/invoke/MethodHandle" ∧ yX14_throwsIn.cls ≠ "java/lang/invoke/VarHandle" ∧ (parseMethodDescriptor yX14_throwsIn.desc).map (fun d => d.parameters.length) = some 4 := by decide +kernel
theorem hd_X14_timeOf : yX14_timeOf.cls = RX14 ∧ yX14_timeOf.cls ≠ "java/lang/invoke/MethodHandle" ∧ yX14_timeOf.cls ≠ "java/lang/invoke/VarHandle" ∧ (parseMethodDescriptor yX14_timeOf.desc).map (fun d => d.parameters.length) = some 3 := by decide +kernel
theorem hd_X14_tryAims : yX14_tryAims.cls = RX14 ∧ yX14_tryAims.cls ≠ "java/lang/invoke/MethodHandle" ∧ yX14_tryAims.cls ≠ "java/lang/invoke/VarHandle" ∧ (parseMethodDescriptor yX14_tryAims.desc).map (fun d => d.parameters.length) = some 2 := by decide +kernel
theorem hd_X14_tryHooks : yX14_tryHooks.cls = RX14 ∧ yX14_tryHooks.cls ≠ "java/lang/invoke/MethodHandle" ∧ yX14_tryHooks.cls ≠ "java/lang/invoke/VarHandle" ∧ (parseMethodDescriptor yX14_tryHooks.desc).map (fun d => d.parameters.length) = some 3 := by decide +kernel
theorem hd_X14_tryOrder : yX14_tryOrder.cls = RX14 ∧ yX14_tryOrder.cls ≠ "java/lang/invoke/MethodHandle" ∧ yX14_tryOrder.cls ≠ "java/lang/invoke/VarHandle" ∧ (parseMethodDescriptor yX14_tryOrder.desc).map (fun d => d.parameters.length) = some 3 := by decide +kernel
theorem hd_X14_up : yX14_up.cls = RX14 ∧ yX14_up.cls ≠ "java/lang/invoke/MethodHandle" ∧ yX14_up.cls ≠ "java/lang/invoke/VarHandle" ∧ (parseMethodDescriptor yX14_up.desc).map (fun d => d.parameters.length) = some 2 := by decide +kernel
theorem hd_X14_wordOf : yX14_wordOf.cls = RX14 ∧ yX14_wordOf.cls ≠ "java/lang/invoke/MethodHandle" ∧ yX14_wordOf.cls ≠ "java/lang/invoke/VarHandle" ∧ (parseMethodDescriptor yX14_wordOf.desc).map (fun d => d.parameters.length) = some 1 := by decide +kernel
theorem hd_X14_yards : yX14_yards.cls = RX14 ∧ yX14_yards.cls ≠ "java/lang/invoke/MethodHandle" ∧ yX14_yards.cls ≠ "java/lang/invoke/VarHandle" ∧ (parseMethodDescriptor yX14_yards.desc).map (fun d => d.parameters.length) = some 1 := by decide +kernel
theorem gi_X14_154 : GoodIn lw_all (wsV RX14 154 RX14 yX14_come (ws_ yX14_come cX14_come 3 none)) := lw_V q1899 q1901 qs35 q118 q1902
theorem gi_X14_173 : GoodIn lw_all (va_wsS RX14 173 yX14_isLetter (ws_ yX14_isLetter cX14_isLetter 1 (some .boolean))) := lw_S q1930 q1931 q118 q1932
theorem gi_X14_177 : GoodIn lw_all (va_wsS RX14 177 yX14_isDigit (ws_ yX14_isDigit cX14_isDigit 1 (some .boolean))) := lw_S q1933 q1934 q118 q1935
theorem gi_X14_190 : GoodIn lw_all (wsV RX14 190 RX14 yX14_byteAt (ws_ yX14_byteAt cX14_byteAt 2 (some .int))) := lw_V q1936 q1938 qs40 q118 q1939
theorem gi_X14_198 : GoodIn lw_all (va_wsS RX14 198 yX14_spelt (ws_ yX14_spelt cX14_spelt 7 (some .long))) := lw_S q1953 q1954 q118 q1955
theorem gi_X14_202 : GoodIn lw_all (va_wsS RX14 202 yX14_on (ws_ yX14_on cX14_on 3 (some .long))) := lw_S q1956 q1957 q118 q1958
theorem gi_X14_206 : GoodIn lw_all (va_wsS RX14 206 yX14_wordOf (ws_ yX14_wordOf cX14_wordOf 1 (some .long))) := lw_S q1950 q1951 q118 q1952
theorem gi_X14_216 : GoodIn lw_all (wsV RX14 216 RX14 yX14_bad (ws_ yX14_bad cX14_bad 2 (some .boolean))) := lw_V q1959 q1961 qs43 q118 q1962
theorem gi_X14_219 : GoodIn lw_all (va_wsS RX14 219 yX14_isIn (ws_ yX14_isIn cX14_isIn 3 (some .boolean))) := lw_S q1975 q1976 q118 q1977
theorem gi_X14_226 : GoodIn lw_all (wsV RX14 226 RX14 yX14_go (ws_ yX14_go cX14_go 5 none)) := lw_V q1926 q1928 qs39 q118 q1929
theorem gi_X14_229 : GoodIn lw_all (wsV RX14 229 RX14 yX14_isSign (ws_ yX14_isSign cX14_isSign 2 (some .boolean))) := lw_V q2001 q2003 qs52 q118 q2004
theorem gi_X14_232 : GoodIn lw_all (wsV RX14 232 RX14 yX14_lay (ws_ yX14_lay cX14_lay 1 none)) := lw_V q1915 q1917 qs37 q118 q1918
theorem gi_X14_235 : GoodIn lw_all (wsV RX14 235 RX14 yX14_take (ws_ yX14_take cX14_take 2 (some .int))) := lw_V q1922 q1924 qs38 q118 q1925
theorem gi_X14_243 : GoodIn lw_all (va_wsS RX14 243 yX14_standard (ws_ yX14_standard cX14_standard 2 none)) := lw_S q1919 q1920 q118 q1921
theorem gi_X14_247 : GoodIn lw_all (wsV RX14 247 RX14 yX14_isName (ws_ yX14_isName cX14_isName 2 (some .boolean))) := lw_V q1967 q1969 qs45 q118 q1970
theorem gi_X14_251 : GoodIn lw_all (wsV RX14 251 RX14 yX14_readNumber (ws_ yX14_readNumber cX14_readNumber 3 (some .boolean))) := lw_V q1971 q1973 qs46 q118 q1974
theorem gi_X14_258 : GoodIn lw_all (va_wsS RX14 258 yX14_has (ws_ yX14_has cX14_has 2 (some .boolean))) := lw_S q1990 q1991 q118 q1992
theorem gi_X14_261 : GoodIn lw_all (wsV RX14 261 RX14 yX14_readInto (ws_ yX14_readInto cX14_readInto 4 (some .boolean))) := lw_V q1993 q1995 qs50 q118 q1996
theorem gi_X14_264 : GoodIn lw_all (wsV RX14 264 RX14 yX14_isWord (ws_ yX14_isWord cX14_isWord 2 (some .boolean))) := lw_V q1946 q1948 qs42 q118 q1949
theorem gi_X14_267 : GoodIn lw_all (wsV RX14 267 RX14 yX14_readMan (ws_ yX14_readMan cX14_readMan 3 (some .boolean))) := lw_V q1963 q1965 qs44 q118 q1966
theorem gi_X14_270 : GoodIn lw_all (wsV RX14 270 RX14 yX14_readCells (ws_ yX14_readCells cX14_readCells 4 (some .boolean))) := lw_V q1978 q1980 qs47 q118 q1981
theorem gi_X14_273 : GoodIn lw_all (wsV RX14 273 RX14 yX14_readBurn (ws_ yX14_readBurn cX14_readBurn 3 (some .boolean))) := lw_V q1982 q1984 qs48 q118 q1985
theorem gi_X14_276 : GoodIn lw_all (wsV RX14 276 RX14 yX14_readOnce (ws_ yX14_readOnce cX14_readOnce 3 (some .boolean))) := lw_V q1986 q1988 qs49 q118 q1989
theorem gi_X14_279 : GoodIn lw_all (wsV RX14 279 RX14 yX14_readEnd (ws_ yX14_readEnd cX14_readEnd 1 (some .boolean))) := lw_V q1997 q1999 qs51 q118 q2000
theorem gi_X14_282 : GoodIn lw_all (wsV RX14 282 RX14 yX14_begin (ws_ yX14_begin cX14_begin 2 none)) := lw_V q1911 q1913 qs36 q118 q1914
theorem gi_X14_285 : GoodIn lw_all (wsV RX14 285 RX14 yX14_readLine (ws_ yX14_readLine cX14_readLine 3 (some .boolean))) := lw_V q1942 q1944 qs41 q118 q1945
theorem gi_X14_288 : GoodIn lw_all (wsV RX14 288 RX14 yX14_men (ws_ yX14_men cX14_men 1 (some .int))) := lw_V q2013 q2015 qs53 q118 q2016
theorem gi_X14_291 : GoodIn lw_all (wsV RX14 291 RX14 yX14_refuse (ws_ yX14_refuse cX14_refuse 1 (some .int))) := lw_V q2017 q2019 qs54 q118 q2020
theorem gi_X14_294 : GoodIn lw_all (wsV RX14 294 RX14 yX14_manOf (ws_ yX14_manOf cX14_manOf 3 (some .int))) := lw_V q2021 q2023 qs55 q118 q2024
theorem gi_X14_298 : GoodIn lw_all (wsV RX14 298 RX14 yX14_columns (ws_ yX14_columns cX14_columns 1 (some .int))) := lw_V q2029 q2031 qs56 q118 q2032
theorem gi_X14_328 : GoodIn lw_all (va_wsS RX14 328 yX14_up (ws_ yX14_up cX14_up 2 (some .int))) := lw_S q2085 q2086 q118 q2087
theorem gi_X14_331 : GoodIn lw_all (wsV RX14 331 RX14 yX14_yards (ws_ yX14_yards cX14_yards 2 (some .int))) := lw_V q2081 q2083 qs68 q118 q2084
theorem gi_X14_337 : GoodIn lw_all (wsV RX14 337 RX14 yX14_push (ws_ yX14_push cX14_push 3 none)) := lw_V q2061 q2063 qs63 q118 q2064
theorem gi_X14_341 : GoodIn lw_all (wsV RX14 341 RX14 yX14_draws (ws_ yX14_draws cX14_draws 2 (some .int))) := lw_V q2069 q2071 qs65 q118 q2072
theorem gi_X14_344 : GoodIn lw_all (wsV RX14 344 RX14 yX14_shift (ws_ yX14_shift cX14_shift 4 (some .int))) := lw_V q2073 q2075 qs66 q118 q2076
theorem gi_X14_347 : GoodIn lw_all (wsV RX14 347 RX14 yX14_timeOf (ws_ yX14_timeOf cX14_timeOf 4 (some .int))) := lw_V q2077 q2079 qs67 q118 q2080
theorem gi_X14_351 : GoodIn lw_all (wsV RX14 351 RX14 yX14_finishes (ws_ yX14_finishes cX14_finishes 3 none)) := lw_V q2057 q2059 qs62 q118 q2060
theorem gi_X14_354 : GoodIn lw_all (wsV RX14 354 RX14 yX14_takesUp (ws_ yX14_takesUp cX14_takesUp 3 none)) := lw_V q2065 q2067 qs64 q118 q2068
theorem gi_X14_357 : GoodIn lw_all (wsV RX14 357 RX14 yX14_isDrawn (ws_ yX14_isDrawn cX14_isDrawn 2 (some .boolean))) := lw_V q2092 q2094 qs70 q118 q2095
theorem gi_X14_360 : GoodIn lw_all (wsV RX14 360 RX14 yX14_rowTick (ws_ yX14_rowTick cX14_rowTick 2 none)) := lw_V q2053 q2055 qs61 q118 q2056
theorem gi_X14_363 : GoodIn lw_all (wsV RX14 363 RX14 yX14_runTick (ws_ yX14_runTick cX14_runTick 3 none)) := lw_V q2088 q2090 qs69 q118 q2091
theorem gi_X14_366 : GoodIn lw_all (wsV RX14 366 RX14 yX14_start (ws_ yX14_start cX14_start 4 none)) := lw_V q2045 q2047 qs59 q118 q2048
theorem gi_X14_369 : GoodIn lw_all (wsV RX14 369 RX14 yX14_teamTick (ws_ yX14_teamTick cX14_teamTick 1 none)) := lw_V q2049 q2051 qs60 q118 q2052
theorem gi_X14_372 : GoodIn lw_all (wsV RX14 372 RX14 yX14_takesTeam (ws_ yX14_takesTeam cX14_takesTeam 6 (some .boolean))) := lw_V q2037 q2039 qs57 q118 q2040
theorem gi_X14_376 : GoodIn lw_all (wsV RX14 376 RX14 yX14_throwsIn (ws_ yX14_throwsIn cX14_throwsIn 6 (some .int))) := lw_V q2041 q2043 qs58 q118 q2044
theorem gi_X14_383 : GoodIn lw_all (wsV RX14 383 RX14 yX14_periodOf (ws_ yX14_periodOf cX14_periodOf 4 (some .int))) := lw_V q2108 q2110 qs71 q118 q2111
theorem gi_X14_392 : GoodIn lw_all (wsV RX14 392 RX14 yX14_tryOrder (ws_ yX14_tryOrder cX14_tryOrder 6 none)) := lw_V q2116 q2118 qs72 q118 q2119
theorem gi_X14_399 : GoodIn lw_all (wsV RX14 399 RX14 yX14_shared (ws_ yX14_shared cX14_shared 3 (some .int))) := lw_V q2144 q2146 qs74 q118 q2147
theorem gi_X14_402 : GoodIn lw_all (wsV RX14 402 RX14 yX14_longest (ws_ yX14_longest cX14_longest 4 (some .int))) := lw_V q2140 q2142 qs73 q118 q2143
theorem gi_X14_408 : GoodIn lw_all (wsV RX14 408 RX14 yX14_canThrow (ws_ yX14_canThrow cX14_canThrow 5 (some .boolean))) := lw_V q2156 q2158 qs75 q118 q2159
theorem gi_X14_417 : GoodIn lw_all (wsV RX14 417 RX14 yX14_tryHooks (ws_ yX14_tryHooks cX14_tryHooks 9 none)) := lw_V q2164 q2166 qs76 q118 q2167
theorem gi_X14_426 : GoodIn lw_all (wsV RX14 426 RX14 yX14_cells (ws_ yX14_cells cX14_cells 1 (some .int))) := lw_V q2184 q2186 qs79 q118 q2187
theorem gi_X14_429 : GoodIn lw_all (wsV RX14 429 RX14 yX14_neighbour (ws_ yX14_neighbour cX14_neighbour 5 (some .int))) := lw_V q2204 q2206 qs84 q118 q2207
theorem gi_X14_432 : GoodIn lw_all (wsV RX14 432 RX14 yX14_heatOf (ws_ yX14_heatOf cX14_heatOf 9 (some .int))) := lw_V q2200 q2202 qs83 q118 q2203
theorem gi_X14_436 : GoodIn lw_all (wsV RX14 436 RX14 yX14_burning (ws_ yX14_burning cX14_burning 3 (some .int))) := lw_V q2192 q2194 qs81 q118 q2195
theorem gi_X14_442 : GoodIn lw_all (wsV RX14 442 RX14 yX14_aimed (ws_ yX14_aimed cX14_aimed 9 (some .int))) := lw_V q2196 q2198 qs82 q118 q2199
theorem gi_X14_445 : GoodIn lw_all (wsV RX14 445 RX14 yX14_minute (ws_ yX14_minute cX14_minute 4 none)) := lw_V q2208 q2210 qs85 q118 q2211
theorem gi_X14_448 : GoodIn lw_all (wsV RX14 448 RX14 yX14_isAim (ws_ yX14_isAim cX14_isAim 2 (some .boolean))) := lw_V q2176 q2178 qs77 q118 q2179
theorem gi_X14_451 : GoodIn lw_all (wsV RX14 451 RX14 yX14_light (ws_ yX14_light cX14_light 2 none)) := lw_V q2180 q2182 qs78 q118 q2183
theorem gi_X14_454 : GoodIn lw_all (wsV RX14 454 RX14 yX14_fires (ws_ yX14_fires cX14_fires 7 none)) := lw_V q2188 q2190 qs80 q118 q2191
theorem gi_X14_473 : GoodIn lw_all (wsV RX14 473 RX14 yX14_keepFire (ws_ yX14_keepFire cX14_keepFire 3 none)) := lw_V q2228 q2230 qs87 q118 q2231
theorem gi_X14_476 : GoodIn lw_all (wsV RX14 476 RX14 yX14_tryAims (ws_ yX14_tryAims cX14_tryAims 6 none)) := lw_V q2224 q2226 qs86 q118 q2227
theorem gi_X14_479 : GoodIn lw_all (wsV RX14 479 RX14 yX14_bringFire (ws_ yX14_bringFire cX14_bringFire 3 none)) := lw_V q2232 q2234 qs88 q118 q2235
theorem gi_X14_485 : GoodIn lw_all (wsV RX14 485 RX14 yX14_givesUp (ws_ yX14_givesUp cX14_givesUp 5 (some .int))) := lw_V q2244 q2246 qs89 q118 q2247
theorem gi_X14_488 : GoodIn lw_all (wsV RX14 488 RX14 yX14_manAtHand (ws_ yX14_manAtHand cX14_manAtHand 2 (some .int))) := lw_V q2264 q2266 qs92 q118 q2267
theorem gi_X14_494 : GoodIn lw_all (wsV RX14 494 RX14 yX14_readMen (ws_ yX14_readMen cX14_readMen 6 (some .boolean))) := lw_V q2260 q2262 qs91 q118 q2263
theorem gi_X14_497 : GoodIn lw_all (wsV RX14 497 RX14 yX14_readTold (ws_ yX14_readTold cX14_readTold 3 (some .boolean))) := lw_V q2256 q2258 qs90 q118 q2259
theorem gi_X14_500 : GoodIn lw_all (wsV RX14 500 RX14 yX14_spend (ws_ yX14_spend cX14_spend 7 none)) := lw_V q2272 q2274 qs93 q118 q2275
theorem gi_X14_506 : GoodIn lw_all (wsV RX14 506 RX14 yX14_readAnd (ws_ yX14_readAnd cX14_readAnd 2 (some .boolean))) := lw_V q2284 q2286 qs95 q118 q2287
theorem gi_X14_512 : GoodIn lw_all (wsV RX14 512 RX14 yX14_lays (ws_ yX14_lays cX14_lays 6 (some .int))) := lw_V q2300 q2302 qs99 q118 q2303
theorem gi_X14_515 : GoodIn lw_all (wsV RX14 515 RX14 yX14_readOne (ws_ yX14_readOne cX14_readOne 4 (some .boolean))) := lw_V q2288 q2290 qs96 q118 q2291
theorem gi_X14_524 : GoodIn lw_all (wsV RX14 524 RX14 yX14_readBracket (ws_ yX14_readBracket cX14_readBracket 1 (some .boolean))) := lw_V q2292 q2294 qs97 q118 q2295
theorem gi_X14_527 : GoodIn lw_all (wsV RX14 527 RX14 yX14_readNot (ws_ yX14_readNot cX14_readNot 1 (some .boolean))) := lw_V q2296 q2298 qs98 q118 q2299
theorem gi_X14_530 : GoodIn lw_all (wsV RX14 530 RX14 yX14_readCompare (ws_ yX14_readCompare cX14_readCompare 3 (some .boolean))) := lw_V q2304 q2306 qs100 q118 q2307
theorem gi_X14_533 : GoodIn lw_all (wsV RX14 533 RX14 yX14_readOr (ws_ yX14_readOr cX14_readOr 2 (some .boolean))) := lw_V q2280 q2282 qs94 q118 q2283
theorem gi_X14_537 : GoodIn lw_all (wsV RX14 537 RX14 yX14_isSo (ws_ yX14_isSo cX14_isSo 7 (some .boolean))) := lw_V q2313 q2315 qs101 q118 q2316
theorem lb_m2 : (Int8.ofInt (-2)).toInt32 = -2 := by decide
theorem lb_10 : (Int8.ofInt (10)).toInt32 = 10 := by decide
theorem lb_100 : (Int8.ofInt (100)).toInt32 = 100 := by decide
theorem lb_101 : (Int8.ofInt (101)).toInt32 = 101 := by decide
theorem lb_103 : (Int8.ofInt (103)).toInt32 = 103 := by decide
theorem lb_104 : (Int8.ofInt (104)).toInt32 = 104 := by decide
theorem lb_105 : (Int8.ofInt (105)).toInt32 = 105 := by decide
theorem lb_107 : (Int8.ofInt (107)).toInt32 = 107 := by decide
theorem lb_108 : (Int8.ofInt (108)).toInt32 = 108 := by decide
theorem lb_109 : (Int8.ofInt (109)).toInt32 = 109 := by decide
theorem lb_11 : (Int8.ofInt (11)).toInt32 = 11 := by decide
theorem lb_110 : (Int8.ofInt (110)).toInt32 = 110 := by decide
theorem lb_111 : (Int8.ofInt (111)).toInt32 = 111 := by decide
theorem lb_112 : (Int8.ofInt (112)).toInt32 = 112 := by decide
theorem lb_114 : (Int8.ofInt (114)).toInt32 = 114 := by decide
theorem lb_115 : (Int8.ofInt (115)).toInt32 = 115 := by decide
theorem lb_116 : (Int8.ofInt (116)).toInt32 = 116 := by decide
theorem lb_117 : (Int8.ofInt (117)).toInt32 = 117 := by decide
theorem lb_118 : (Int8.ofInt (118)).toInt32 = 118 := by decide
theorem lb_119 : (Int8.ofInt (119)).toInt32 = 119 := by decide
theorem lb_12 : (Int8.ofInt (12)).toInt32 = 12 := by decide
theorem lb_121 : (Int8.ofInt (121)).toInt32 = 121 := by decide
theorem lb_122 : (Int8.ofInt (122)).toInt32 = 122 := by decide
theorem lb_14 : (Int8.ofInt (14)).toInt32 = 14 := by decide
theorem lb_15 : (Int8.ofInt (15)).toInt32 = 15 := by decide
theorem lb_16 : (Int8.ofInt (16)).toInt32 = 16 := by decide
theorem lb_17 : (Int8.ofInt (17)).toInt32 = 17 := by decide
theorem lb_18 : (Int8.ofInt (18)).toInt32 = 18 := by decide
theorem lb_19 : (Int8.ofInt (19)).toInt32 = 19 := by decide
theorem lb_20 : (Int8.ofInt (20)).toInt32 = 20 := by decide
theorem lb_21 : (Int8.ofInt (21)).toInt32 = 21 := by decide
theorem lb_22 : (Int8.ofInt (22)).toInt32 = 22 := by decide
theorem lb_23 : (Int8.ofInt (23)).toInt32 = 23 := by decide
theorem lb_24 : (Int8.ofInt (24)).toInt32 = 24 := by decide
theorem lb_28 : (Int8.ofInt (28)).toInt32 = 28 := by decide
theorem lb_30 : (Int8.ofInt (30)).toInt32 = 30 := by decide
theorem lb_32 : (Int8.ofInt (32)).toInt32 = 32 := by decide
theorem lb_40 : (Int8.ofInt (40)).toInt32 = 40 := by decide
theorem lb_41 : (Int8.ofInt (41)).toInt32 = 41 := by decide
theorem lb_48 : (Int8.ofInt (48)).toInt32 = 48 := by decide
theorem lb_57 : (Int8.ofInt (57)).toInt32 = 57 := by decide
theorem lb_59 : (Int8.ofInt (59)).toInt32 = 59 := by decide
theorem lb_6 : (Int8.ofInt (6)).toInt32 = 6 := by decide
theorem lb_60 : (Int8.ofInt (60)).toInt32 = 60 := by decide
theorem lb_61 : (Int8.ofInt (61)).toInt32 = 61 := by decide
theorem lb_62 : (Int8.ofInt (62)).toInt32 = 62 := by decide
theorem lb_64 : (Int8.ofInt (64)).toInt32 = 64 := by decide
theorem lb_7 : (Int8.ofInt (7)).toInt32 = 7 := by decide
theorem lb_8 : (Int8.ofInt (8)).toInt32 = 8 := by decide
theorem lb_9 : (Int8.ofInt (9)).toInt32 = 9 := by decide
theorem lb_97 : (Int8.ofInt (97)).toInt32 = 97 := by decide
theorem lb_98 : (Int8.ofInt (98)).toInt32 = 98 := by decide
theorem lb_99 : (Int8.ofInt (99)).toInt32 = 99 := by decide
theorem li_m1 : Int32.ofInt (-1) = -1 := by decide
theorem li_0 : Int32.ofInt (0) = 0 := by decide
theorem li_1 : Int32.ofInt (1) = 1 := by decide
theorem li_2 : Int32.ofInt (2) = 2 := by decide
theorem li_3 : Int32.ofInt (3) = 3 := by decide
theorem li_4 : Int32.ofInt (4) = 4 := by decide
theorem li_5 : Int32.ofInt (5) = 5 := by decide
theorem ls_1000 : (Int16.ofInt (1000)).toInt32 = 1000 := by decide
theorem ls_130 : (Int16.ofInt (130)).toInt32 = 130 := by decide
theorem ls_177 : (Int16.ofInt (177)).toInt32 = 177 := by decide
theorem ls_192 : (Int16.ofInt (192)).toInt32 = 192 := by decide
theorem ls_200 : (Int16.ofInt (200)).toInt32 = 200 := by decide
theorem ls_210 : (Int16.ofInt (210)).toInt32 = 210 := by decide
theorem ls_240 : (Int16.ofInt (240)).toInt32 = 240 := by decide
theorem ls_255 : (Int16.ofInt (255)).toInt32 = 255 := by decide
theorem ls_3600 : (Int16.ofInt (3600)).toInt32 = 3600 := by decide
theorem ls_400 : (Int16.ofInt (400)).toInt32 = 400 := by decide
theorem ls_540 : (Int16.ofInt (540)).toInt32 = 540 := by decide
theorem ls_541 : (Int16.ofInt (541)).toInt32 = 541 := by decide
theorem ls_550 : (Int16.ofInt (550)).toInt32 = 550 := by decide
theorem ls_700 : (Int16.ofInt (700)).toInt32 = 700 := by decide
theorem ls_740 : (Int16.ofInt (740)).toInt32 = 740 := by decide
theorem ls_800 : (Int16.ofInt (800)).toInt32 = 800 := by decide
theorem ls_999 : (Int16.ofInt (999)).toInt32 = 999 := by decide
theorem ls_9999 : (Int16.ofInt (9999)).toInt32 = 9999 := by decide
theorem tb_out_0_27 (x : Int32) (c0 : ¬ x = 0) (c1 : ¬ x = 1) (c2 : ¬ x = 2) (c3 : ¬ x = 3) (c4 : ¬ x = 4) (c5 : ¬ x = 5) (c6 : ¬ x = 6) (c7 : ¬ x = 7) (c8 : ¬ x = 8) (c9 : ¬ x = 9) (c10 : ¬ x = 10) (c11 : ¬ x = 11) (c12 : ¬ x = 12) (c13 : ¬ x = 13) (c14 : ¬ x = 14) (c15 : ¬ x = 15) (c16 : ¬ x = 16) (c17 : ¬ x = 17) (c18 : ¬ x = 18) (c19 : ¬ x = 19) (c20 : ¬ x = 20) (c21 : ¬ x = 21) (c22 : ¬ x = 22) (c23 : ¬ x = 23) (c24 : ¬ x = 24) (c25 : ¬ x = 25) (c26 : ¬ x = 26) (c27 : ¬ x = 27) : x.toInt < 0 ∨ 27 < x.toInt := by
  have h0 : x.toInt ≠ 0 := fun h => c0 (Int32.toInt_inj.mp (by rw [h]; rfl))
  have h1 : x.toInt ≠ 1 := fun h => c1 (Int32.toInt_inj.mp (by rw [h]; rfl))
  have h2 : x.toInt ≠ 2 := fun h => c2 (Int32.toInt_inj.mp (by rw [h]; rfl))
  have h3 : x.toInt ≠ 3 := fun h => c3 (Int32.toInt_inj.mp (by rw [h]; rfl))
  have h4 : x.toInt ≠ 4 := fun h => c4 (Int32.toInt_inj.mp (by rw [h]; rfl))
  have h5 : x.toInt ≠ 5 := fun h => c5 (Int32.toInt_inj.mp (by rw [h]; rfl))
  have h6 : x.toInt ≠ 6 := fun h => c6 (Int32.toInt_inj.mp (by rw [h]; rfl))
  have h7 : x.toInt ≠ 7 := fun h => c7 (Int32.toInt_inj.mp (by rw [h]; rfl))
  have h8 : x.toInt ≠ 8 := fun h => c8 (Int32.toInt_inj.mp (by rw [h]; rfl))
  have h9 : x.toInt ≠ 9 := fun h => c9 (Int32.toInt_inj.mp (by rw [h]; rfl))
  have h10 : x.toInt ≠ 10 := fun h => c10 (Int32.toInt_inj.mp (by rw [h]; rfl))
  have h11 : x.toInt ≠ 11 := fun h => c11 (Int32.toInt_inj.mp (by rw [h]; rfl))
  have h12 : x.toInt ≠ 12 := fun h => c12 (Int32.toInt_inj.mp (by rw [h]; rfl))
  have h13 : x.toInt ≠ 13 := fun h => c13 (Int32.toInt_inj.mp (by rw [h]; rfl))
  have h14 : x.toInt ≠ 14 := fun h => c14 (Int32.toInt_inj.mp (by rw [h]; rfl))
  have h15 : x.toInt ≠ 15 := fun h => c15 (Int32.toInt_inj.mp (by rw [h]; rfl))
  have h16 : x.toInt ≠ 16 := fun h => c16 (Int32.toInt_inj.mp (by rw [h]; rfl))
  have h17 : x.toInt ≠ 17 := fun h => c17 (Int32.toInt_inj.mp (by rw [h]; rfl))
  have h18 : x.toInt ≠ 18 := fun h => c18 (Int32.toInt_inj.mp (by rw [h]; rfl))
  have h19 : x.toInt ≠ 19 := fun h => c19 (Int32.toInt_inj.mp (by rw [h]; rfl))
  have h20 : x.toInt ≠ 20 := fun h => c20 (Int32.toInt_inj.mp (by rw [h]; rfl))
  have h21 : x.toInt ≠ 21 := fun h => c21 (Int32.toInt_inj.mp (by rw [h]; rfl))
  have h22 : x.toInt ≠ 22 := fun h => c22 (Int32.toInt_inj.mp (by rw [h]; rfl))
  have h23 : x.toInt ≠ 23 := fun h => c23 (Int32.toInt_inj.mp (by rw [h]; rfl))
  have h24 : x.toInt ≠ 24 := fun h => c24 (Int32.toInt_inj.mp (by rw [h]; rfl))
  have h25 : x.toInt ≠ 25 := fun h => c25 (Int32.toInt_inj.mp (by rw [h]; rfl))
  have h26 : x.toInt ≠ 26 := fun h => c26 (Int32.toInt_inj.mp (by rw [h]; rfl))
  have h27 : x.toInt ≠ 27 := fun h => c27 (Int32.toInt_inj.mp (by rw [h]; rfl))
  omega
theorem tb_out_0_6 (x : Int32) (c0 : ¬ x = 0) (c1 : ¬ x = 1) (c2 : ¬ x = 2) (c3 : ¬ x = 3) (c4 : ¬ x = 4) (c5 : ¬ x = 5) (c6 : ¬ x = 6) : x.toInt < 0 ∨ 6 < x.toInt := by
  have h0 : x.toInt ≠ 0 := fun h => c0 (Int32.toInt_inj.mp (by rw [h]; rfl))
  have h1 : x.toInt ≠ 1 := fun h => c1 (Int32.toInt_inj.mp (by rw [h]; rfl))
  have h2 : x.toInt ≠ 2 := fun h => c2 (Int32.toInt_inj.mp (by rw [h]; rfl))
  have h3 : x.toInt ≠ 3 := fun h => c3 (Int32.toInt_inj.mp (by rw [h]; rfl))
  have h4 : x.toInt ≠ 4 := fun h => c4 (Int32.toInt_inj.mp (by rw [h]; rfl))
  have h5 : x.toInt ≠ 5 := fun h => c5 (Int32.toInt_inj.mp (by rw [h]; rfl))
  have h6 : x.toInt ≠ 6 := fun h => c6 (Int32.toInt_inj.mp (by rw [h]; rfl))
  omega
theorem tb_out_1_4 (x : Int32) (c1 : ¬ x = 1) (c2 : ¬ x = 2) (c3 : ¬ x = 3) (c4 : ¬ x = 4) : x.toInt < 1 ∨ 4 < x.toInt := by
  have h1 : x.toInt ≠ 1 := fun h => c1 (Int32.toInt_inj.mp (by rw [h]; rfl))
  have h2 : x.toInt ≠ 2 := fun h => c2 (Int32.toInt_inj.mp (by rw [h]; rfl))
  have h3 : x.toInt ≠ 3 := fun h => c3 (Int32.toInt_inj.mp (by rw [h]; rfl))
  have h4 : x.toInt ≠ 4 := fun h => c4 (Int32.toInt_inj.mp (by rw [h]; rfl))
  omega
theorem tb_out_3_8 (x : Int32) (c3 : ¬ x = 3) (c4 : ¬ x = 4) (c5 : ¬ x = 5) (c6 : ¬ x = 6) (c7 : ¬ x = 7) (c8 : ¬ x = 8) : x.toInt < 3 ∨ 8 < x.toInt := by
  have h3 : x.toInt ≠ 3 := fun h => c3 (Int32.toInt_inj.mp (by rw [h]; rfl))
  have h4 : x.toInt ≠ 4 := fun h => c4 (Int32.toInt_inj.mp (by rw [h]; rfl))
  have h5 : x.toInt ≠ 5 := fun h => c5 (Int32.toInt_inj.mp (by rw [h]; rfl))
  have h6 : x.toInt ≠ 6 := fun h => c6 (Int32.toInt_inj.mp (by rw [h]; rfl))
  have h7 : x.toInt ≠ 7 := fun h => c7 (Int32.toInt_inj.mp (by rw [h]; rfl))
  have h8 : x.toInt ≠ 8 := fun h => c8 (Int32.toInt_inj.mp (by rw [h]; rfl))
  omega
