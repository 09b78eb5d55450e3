/-! ===== what can be made, and further calls, by their links (printed by tools/genfacts2.py) ===== -/
set_option maxRecDepth 100000
theorem nw_X1_13 : znw RX1 13 2 13 [.null, .null, .null, .null, .null, .null, .null, .null, .null, .int 0, .int 0, .int 0, .int 0] := ⟨_, _, rfl, q140, q141, q90, fun j hj => (match j, hj with
  | 0, _ => rfl
  | 1, _ => rfl
  | 2, _ => rfl
  | 3, _ => rfl
  | 4, _ => rfl
  | 5, _ => rfl
  | 6, _ => rfl
  | 7, _ => rfl
  | 8, _ => rfl
  | 9, _ => rfl
  | 10, _ => rfl
  | 11, _ => rfl
  | 12, _ => rfl
  | j + 13, hj => absurd hj (by omega)), rfl⟩
theorem nw_X1_20 : znw RX1 20 19 4 [.null, .int 0, .int 0, .int 0] := ⟨_, _, rfl, q323, q324, q100, fun j hj => (match j, hj with
  | 0, _ => rfl
  | 1, _ => rfl
  | 2, _ => rfl
  | 3, _ => rfl
  | j + 4, hj => absurd hj (by omega)), rfl⟩
theorem nw_X1_27 : znw RX1 27 22 6 [.null, .null, .null, .null, .null, .int 0] := ⟨_, _, rfl, q684, q685, q107, fun j hj => (match j, hj with
  | 0, _ => rfl
  | 1, _ => rfl
  | 2, _ => rfl
  | 3, _ => rfl
  | 4, _ => rfl
  | 5, _ => rfl
  | j + 6, hj => absurd hj (by omega)), rfl⟩
theorem nw_X1_30 : znw RX1 30 24 6 [.null, .null, .null, .null, .null, .int 0] := ⟨_, _, rfl, q817, q818, q110, fun j hj => (match j, hj with
  | 0, _ => rfl
  | 1, _ => rfl
  | 2, _ => rfl
  | 3, _ => rfl
  | 4, _ => rfl
  | 5, _ => rfl
  | j + 6, hj => absurd hj (by omega)), rfl⟩
theorem nw_X1_33 : znw RX1 33 25 6 [.null, .null, .null, .null, .null, .int 0] := ⟨_, _, rfl, q937, q938, q116, fun j hj => (match j, hj with
  | 0, _ => rfl
  | 1, _ => rfl
  | 2, _ => rfl
  | 3, _ => rfl
  | 4, _ => rfl
  | 5, _ => rfl
  | j + 6, hj => absurd hj (by omega)), rfl⟩
theorem nw_X1_36 : znw RX1 36 23 6 [.null, .null, .null, .null, .null, .int 0] := ⟨_, _, rfl, q758, q759, q108, fun j hj => (match j, hj with
  | 0, _ => rfl
  | 1, _ => rfl
  | 2, _ => rfl
  | 3, _ => rfl
  | 4, _ => rfl
  | 5, _ => rfl
  | j + 6, hj => absurd hj (by omega)), rfl⟩
theorem nw_X1_44 : znw RX1 44 18 3 [.int 0, .null, .int 0] := ⟨_, _, rfl, q465, q147, q93, fun j hj => (match j, hj with
  | 0, _ => rfl
  | 1, _ => rfl
  | 2, _ => rfl
  | j + 3, hj => absurd hj (by omega)), rfl⟩
theorem nw_X1_57 : znw RX1 57 4 2 [.null, .null] := ⟨_, _, rfl, q773, q571, q109, fun j hj => (match j, hj with
  | 0, _ => rfl
  | 1, _ => rfl
  | j + 2, hj => absurd hj (by omega)), rfl⟩
theorem nw_X1_62 : znw RX1 62 5 6 [.int 0, .int 0, .int 0, .int 0, .int 0, .int 0] := ⟨_, _, rfl, q468, q600, q114, fun j hj => (match j, hj with
  | 0, _ => rfl
  | 1, _ => rfl
  | 2, _ => rfl
  | 3, _ => rfl
  | 4, _ => rfl
  | 5, _ => rfl
  | j + 6, hj => absurd hj (by omega)), rfl⟩
theorem nw_X1_67 : znw RX1 67 3 2 [.null, .int 0] := ⟨_, _, rfl, q917, q247, q98, fun j hj => (match j, hj with
  | 0, _ => rfl
  | 1, _ => rfl
  | j + 2, hj => absurd hj (by omega)), rfl⟩
theorem nw_X1_122 : znw RX1 122 6 2 [.int 0, .int 0] := ⟨_, _, rfl, q877, q878, q115, fun j hj => (match j, hj with
  | 0, _ => rfl
  | 1, _ => rfl
  | j + 2, hj => absurd hj (by omega)), rfl⟩
theorem nw_X1_204 : znw RX1 204 21 1 [.int 0] := ⟨_, _, rfl, q1027, q477, q118, fun j hj => (match j, hj with
  | 0, _ => rfl
  | j + 1, hj => absurd hj (by omega)), rfl⟩
theorem nw_X1_218 : znw RX1 218 8 7 [.null, .null, .null, .null, .null, .int 0, .int 0] := ⟨_, _, rfl, q1049, q1059, q121, fun j hj => (match j, hj with
  | 0, _ => rfl
  | 1, _ => rfl
  | 2, _ => rfl
  | 3, _ => rfl
  | 4, _ => rfl
  | 5, _ => rfl
  | 6, _ => rfl
  | j + 7, hj => absurd hj (by omega)), rfl⟩
theorem nw_X1_248 : znw RX1 248 9 5 [.null, .int 0, .int 0, .null, .null] := ⟨_, _, rfl, q1132, q1133, q122, fun j hj => (match j, hj with
  | 0, _ => rfl
  | 1, _ => rfl
  | 2, _ => rfl
  | 3, _ => rfl
  | 4, _ => rfl
  | j + 5, hj => absurd hj (by omega)), rfl⟩
theorem nw_X1_276 : znw RX1 276 10 9 [.null, .int 0, .null, .null, .int 0, .int 0, .int 0, .int 0, .int 0] := ⟨_, _, rfl, q1232, q1233, q123, fun j hj => (match j, hj with
  | 0, _ => rfl
  | 1, _ => rfl
  | 2, _ => rfl
  | 3, _ => rfl
  | 4, _ => rfl
  | 5, _ => rfl
  | 6, _ => rfl
  | 7, _ => rfl
  | 8, _ => rfl
  | j + 9, hj => absurd hj (by omega)), rfl⟩
theorem nw_X1_302 : znw RX1 302 12 2 [.null, .int 0] := ⟨_, _, rfl, q1571, q1572, q126, fun j hj => (match j, hj with
  | 0, _ => rfl
  | 1, _ => rfl
  | j + 2, hj => absurd hj (by omega)), rfl⟩
theorem nw_X1_313 : znw RX1 313 15 1 [.null] := ⟨_, _, rfl, q1676, q1677, q129, fun j hj => (match j, hj with
  | 0, _ => rfl
  | j + 1, hj => absurd hj (by omega)), rfl⟩
theorem nw_X1_327 : znw RX1 327 14 8 [.null, .null, .null, .null, .null, .int 0, .int 0, .int 0] := ⟨_, _, rfl, q1436, q1642, q128, fun j hj => (match j, hj with
  | 0, _ => rfl
  | 1, _ => rfl
  | 2, _ => rfl
  | 3, _ => rfl
  | 4, _ => rfl
  | 5, _ => rfl
  | 6, _ => rfl
  | 7, _ => rfl
  | j + 8, hj => absurd hj (by omega)), rfl⟩
theorem nw_X1_329 : znw RX1 329 17 7 [.null, .null, .null, .null, .null, .int 0, .int 0] := ⟨_, _, rfl, q1437, q1732, q131, fun j hj => (match j, hj with
  | 0, _ => rfl
  | 1, _ => rfl
  | 2, _ => rfl
  | 3, _ => rfl
  | 4, _ => rfl
  | 5, _ => rfl
  | 6, _ => rfl
  | j + 7, hj => absurd hj (by omega)), rfl⟩
theorem nw_X1_337 : znw RX1 337 7 7 [.null, .null, .null, .null, .null, .int 0, .int 0] := ⟨_, _, rfl, q1769, q1081, q120, fun j hj => (match j, hj with
  | 0, _ => rfl
  | 1, _ => rfl
  | 2, _ => rfl
  | 3, _ => rfl
  | 4, _ => rfl
  | 5, _ => rfl
  | 6, _ => rfl
  | j + 7, hj => absurd hj (by omega)), rfl⟩
theorem nw_X16_25 : znw RX16 25 7 7 [.null, .null, .null, .null, .null, .int 0, .int 0] := ⟨_, _, rfl, q1698, q1081, q120, fun j hj => (match j, hj with
  | 0, _ => rfl
  | 1, _ => rfl
  | 2, _ => rfl
  | 3, _ => rfl
  | 4, _ => rfl
  | 5, _ => rfl
  | 6, _ => rfl
  | j + 7, hj => absurd hj (by omega)), rfl⟩
theorem nw_X16_44 : znw RX16 44 16 7 [.null, .null, .null, .null, .null, .int 0, .int 0] := ⟨_, _, rfl, q1690, q1699, q130, fun j hj => (match j, hj with
  | 0, _ => rfl
  | 1, _ => rfl
  | 2, _ => rfl
  | 3, _ => rfl
  | 4, _ => rfl
  | 5, _ => rfl
  | 6, _ => rfl
  | j + 7, hj => absurd hj (by omega)), rfl⟩
theorem nw_X16_48 : znw RX16 48 13 2 [.null, .null] := ⟨_, _, rfl, q1693, q1595, q127, fun j hj => (match j, hj with
  | 0, _ => rfl
  | 1, _ => rfl
  | j + 2, hj => absurd hj (by omega)), rfl⟩
theorem nw_X16_56 : znw RX16 56 4 2 [.null, .null] := ⟨_, _, rfl, q1715, q571, q109, fun j hj => (match j, hj with
  | 0, _ => rfl
  | 1, _ => rfl
  | j + 2, hj => absurd hj (by omega)), rfl⟩
theorem nw_X16_83 : znw RX16 83 17 7 [.null, .null, .null, .null, .null, .int 0, .int 0] := ⟨_, _, rfl, q1731, q1732, q131, fun j hj => (match j, hj with
  | 0, _ => rfl
  | 1, _ => rfl
  | 2, _ => rfl
  | 3, _ => rfl
  | 4, _ => rfl
  | 5, _ => rfl
  | 6, _ => rfl
  | j + 7, hj => absurd hj (by omega)), rfl⟩
theorem nw_X9_3 : znw RX9 3 7 7 [.null, .null, .null, .null, .null, .int 0, .int 0] := ⟨_, _, rfl, q1080, q1081, q120, fun j hj => (match j, hj with
  | 0, _ => rfl
  | 1, _ => rfl
  | 2, _ => rfl
  | 3, _ => rfl
  | 4, _ => rfl
  | 5, _ => rfl
  | 6, _ => rfl
  | j + 7, hj => absurd hj (by omega)), rfl⟩
theorem nw_X10_41 : znw RX10 41 3 2 [.null, .int 0] := ⟨_, _, rfl, q1163, q247, q98, fun j hj => (match j, hj with
  | 0, _ => rfl
  | 1, _ => rfl
  | j + 2, hj => absurd hj (by omega)), rfl⟩
theorem nw_X10_55 : znw RX10 55 5 6 [.int 0, .int 0, .int 0, .int 0, .int 0, .int 0] := ⟨_, _, rfl, q1164, q600, q114, fun j hj => (match j, hj with
  | 0, _ => rfl
  | 1, _ => rfl
  | 2, _ => rfl
  | 3, _ => rfl
  | 4, _ => rfl
  | 5, _ => rfl
  | j + 6, hj => absurd hj (by omega)), rfl⟩
theorem nw_X10_66 : znw RX10 66 4 2 [.null, .null] := ⟨_, _, rfl, q1170, q571, q109, fun j hj => (match j, hj with
  | 0, _ => rfl
  | 1, _ => rfl
  | j + 2, hj => absurd hj (by omega)), rfl⟩
theorem nw_X5_13 : znw RX5 13 18 3 [.int 0, .null, .int 0] := ⟨_, _, rfl, q584, q147, q93, fun j hj => (match j, hj with
  | 0, _ => rfl
  | 1, _ => rfl
  | 2, _ => rfl
  | j + 3, hj => absurd hj (by omega)), rfl⟩
theorem nw_X5_28 : znw RX5 28 5 6 [.int 0, .int 0, .int 0, .int 0, .int 0, .int 0] := ⟨_, _, rfl, q558, q600, q114, fun j hj => (match j, hj with
  | 0, _ => rfl
  | 1, _ => rfl
  | 2, _ => rfl
  | 3, _ => rfl
  | 4, _ => rfl
  | 5, _ => rfl
  | j + 6, hj => absurd hj (by omega)), rfl⟩
theorem nw_X13_36 : znw RX13 36 14 8 [.null, .null, .null, .null, .null, .int 0, .int 0, .int 0] := ⟨_, _, rfl, q1641, q1642, q128, fun j hj => (match j, hj with
  | 0, _ => rfl
  | 1, _ => rfl
  | 2, _ => rfl
  | 3, _ => rfl
  | 4, _ => rfl
  | 5, _ => rfl
  | 6, _ => rfl
  | 7, _ => rfl
  | j + 8, hj => absurd hj (by omega)), rfl⟩
theorem nw_X13_54 : znw RX13 54 13 2 [.null, .null] := ⟨_, _, rfl, q1594, q1595, q127, fun j hj => (match j, hj with
  | 0, _ => rfl
  | 1, _ => rfl
  | j + 2, hj => absurd hj (by omega)), rfl⟩
theorem nw_X13_70 : znw RX13 70 18 3 [.int 0, .null, .int 0] := ⟨_, _, rfl, q1588, q147, q93, fun j hj => (match j, hj with
  | 0, _ => rfl
  | 1, _ => rfl
  | 2, _ => rfl
  | j + 3, hj => absurd hj (by omega)), rfl⟩
theorem nw_X18_3 : znw RX18 3 7 7 [.null, .null, .null, .null, .null, .int 0, .int 0] := ⟨_, _, rfl, q1743, q1081, q120, fun j hj => (match j, hj with
  | 0, _ => rfl
  | 1, _ => rfl
  | 2, _ => rfl
  | 3, _ => rfl
  | 4, _ => rfl
  | 5, _ => rfl
  | 6, _ => rfl
  | j + 7, hj => absurd hj (by omega)), rfl⟩
theorem nw_X11_9 : znw RX11 9 18 3 [.int 0, .null, .int 0] := ⟨_, _, rfl, q1238, q147, q93, fun j hj => (match j, hj with
  | 0, _ => rfl
  | 1, _ => rfl
  | 2, _ => rfl
  | j + 3, hj => absurd hj (by omega)), rfl⟩
theorem nw_X11_52 : znw RX11 52 11 3 [.int 0, .int 0, .int 0] := ⟨_, _, rfl, q1301, q1306, q124, fun j hj => (match j, hj with
  | 0, _ => rfl
  | 1, _ => rfl
  | 2, _ => rfl
  | j + 3, hj => absurd hj (by omega)), rfl⟩
theorem nw_X11_70 : znw RX11 70 5 6 [.int 0, .int 0, .int 0, .int 0, .int 0, .int 0] := ⟨_, _, rfl, q1288, q600, q114, fun j hj => (match j, hj with
  | 0, _ => rfl
  | 1, _ => rfl
  | 2, _ => rfl
  | 3, _ => rfl
  | 4, _ => rfl
  | 5, _ => rfl
  | j + 6, hj => absurd hj (by omega)), rfl⟩
theorem nw_X11_74 : znw RX11 74 3 2 [.null, .int 0] := ⟨_, _, rfl, q1293, q247, q98, fun j hj => (match j, hj with
  | 0, _ => rfl
  | 1, _ => rfl
  | j + 2, hj => absurd hj (by omega)), rfl⟩
theorem nw_X2_9 : znw RX2 9 18 3 [.int 0, .null, .int 0] := ⟨_, _, rfl, q146, q147, q93, fun j hj => (match j, hj with
  | 0, _ => rfl
  | 1, _ => rfl
  | 2, _ => rfl
  | j + 3, hj => absurd hj (by omega)), rfl⟩
theorem nw_X2_51 : znw RX2 51 3 2 [.null, .int 0] := ⟨_, _, rfl, q246, q247, q98, fun j hj => (match j, hj with
  | 0, _ => rfl
  | 1, _ => rfl
  | j + 2, hj => absurd hj (by omega)), rfl⟩
theorem nw_X2_63 : znw RX2 63 4 2 [.null, .null] := ⟨_, _, rfl, q417, q571, q109, fun j hj => (match j, hj with
  | 0, _ => rfl
  | 1, _ => rfl
  | j + 2, hj => absurd hj (by omega)), rfl⟩
theorem nw_X2_77 : znw RX2 77 5 6 [.int 0, .int 0, .int 0, .int 0, .int 0, .int 0] := ⟨_, _, rfl, q408, q600, q114, fun j hj => (match j, hj with
  | 0, _ => rfl
  | 1, _ => rfl
  | 2, _ => rfl
  | 3, _ => rfl
  | 4, _ => rfl
  | 5, _ => rfl
  | j + 6, hj => absurd hj (by omega)), rfl⟩
theorem nw_X2_125 : znw RX2 125 6 2 [.int 0, .int 0] := ⟨_, _, rfl, q435, q878, q115, fun j hj => (match j, hj with
  | 0, _ => rfl
  | 1, _ => rfl
  | j + 2, hj => absurd hj (by omega)), rfl⟩
theorem nw_X2_185 : znw RX2 185 8 7 [.null, .null, .null, .null, .null, .int 0, .int 0] := ⟨_, _, rfl, q1058, q1059, q121, fun j hj => (match j, hj with
  | 0, _ => rfl
  | 1, _ => rfl
  | 2, _ => rfl
  | 3, _ => rfl
  | 4, _ => rfl
  | 5, _ => rfl
  | 6, _ => rfl
  | j + 7, hj => absurd hj (by omega)), rfl⟩
theorem nw_X15_3 : znw RX15 3 7 7 [.null, .null, .null, .null, .null, .int 0, .int 0] := ⟨_, _, rfl, q1653, q1081, q120, fun j hj => (match j, hj with
  | 0, _ => rfl
  | 1, _ => rfl
  | 2, _ => rfl
  | 3, _ => rfl
  | 4, _ => rfl
  | 5, _ => rfl
  | 6, _ => rfl
  | j + 7, hj => absurd hj (by omega)), rfl⟩
theorem nw_X14_13 : znw RX14 13 18 3 [.int 0, .null, .int 0] := ⟨_, _, rfl, q1600, q147, q93, fun j hj => (match j, hj with
  | 0, _ => rfl
  | 1, _ => rfl
  | 2, _ => rfl
  | j + 3, hj => absurd hj (by omega)), rfl⟩
theorem nw_X0_8 : znw RX0 8 1 6 [.null, .null, .null, .null, .null, .int 0] := ⟨_, _, rfl, q132, q133, q89, fun j hj => (match j, hj with
  | 0, _ => rfl
  | 1, _ => rfl
  | 2, _ => rfl
  | 3, _ => rfl
  | 4, _ => rfl
  | 5, _ => rfl
  | j + 6, hj => absurd hj (by omega)), rfl⟩
theorem nw_X0_13 : znw RX0 13 22 6 [.null, .null, .null, .null, .null, .int 0] := ⟨_, _, rfl, q669, q685, q107, fun j hj => (match j, hj with
  | 0, _ => rfl
  | 1, _ => rfl
  | 2, _ => rfl
  | 3, _ => rfl
  | 4, _ => rfl
  | 5, _ => rfl
  | j + 6, hj => absurd hj (by omega)), rfl⟩
theorem nw_X0_15 : znw RX0 15 23 6 [.null, .null, .null, .null, .null, .int 0] := ⟨_, _, rfl, q670, q759, q108, fun j hj => (match j, hj with
  | 0, _ => rfl
  | 1, _ => rfl
  | 2, _ => rfl
  | 3, _ => rfl
  | 4, _ => rfl
  | 5, _ => rfl
  | j + 6, hj => absurd hj (by omega)), rfl⟩
theorem nw_X0_21 : znw RX0 21 24 6 [.null, .null, .null, .null, .null, .int 0] := ⟨_, _, rfl, q778, q818, q110, fun j hj => (match j, hj with
  | 0, _ => rfl
  | 1, _ => rfl
  | 2, _ => rfl
  | 3, _ => rfl
  | 4, _ => rfl
  | 5, _ => rfl
  | j + 6, hj => absurd hj (by omega)), rfl⟩
theorem nw_X0_49 : znw RX0 49 25 6 [.null, .null, .null, .null, .null, .int 0] := ⟨_, _, rfl, q925, q938, q116, fun j hj => (match j, hj with
  | 0, _ => rfl
  | 1, _ => rfl
  | 2, _ => rfl
  | 3, _ => rfl
  | 4, _ => rfl
  | 5, _ => rfl
  | j + 6, hj => absurd hj (by omega)), rfl⟩
theorem nw_X0_115 : znw RX0 115 0 37 [.null, .null, .int 0, .int 0, .null, .int 0, .null, .int 0, .null, .int 0, .int 0, .null, .null, .null, .int 0, .int 0, .null, .int 0, .null, .null, .null, .int 0, .null, .null, .null, .null, .null, .null, .null, .null, .int 0, .int 0, .int 0, .int 0, .int 0, .int 0, .null] := ⟨_, _, rfl, q1786, q1787, q103, fun j hj => (match j, hj with
  | 0, _ => rfl
  | 1, _ => rfl
  | 2, _ => rfl
  | 3, _ => rfl
  | 4, _ => rfl
  | 5, _ => rfl
  | 6, _ => rfl
  | 7, _ => rfl
  | 8, _ => rfl
  | 9, _ => rfl
  | 10, _ => rfl
  | 11, _ => rfl
  | 12, _ => rfl
  | 13, _ => rfl
  | 14, _ => rfl
  | 15, _ => rfl
  | 16, _ => rfl
  | 17, _ => rfl
  | 18, _ => rfl
  | 19, _ => rfl
  | 20, _ => rfl
  | 21, _ => rfl
  | 22, _ => rfl
  | 23, _ => rfl
  | 24, _ => rfl
  | 25, _ => rfl
  | 26, _ => rfl
  | 27, _ => rfl
  | 28, _ => rfl
  | 29, _ => rfl
  | 30, _ => rfl
  | 31, _ => rfl
  | 32, _ => rfl
  | 33, _ => rfl
  | 34, _ => rfl
  | 35, _ => rfl
  | 36, _ => rfl
  | j + 37, hj => absurd hj (by omega)), rfl⟩
theorem nw_J21_1 : znw RJ21 1 21 1 [.int 0] := ⟨_, _, rfl, q476, q477, q118, fun j hj => (match j, hj with
  | 0, _ => rfl
  | j + 1, hj => absurd hj (by omega)), rfl⟩
theorem nw_J7_18 : znw RJ7 18 20 4 [.null, .int 0, .int 0, .int 0] := ⟨_, _, rfl, q1442, q805, q101, fun j hj => (match j, hj with
  | 0, _ => rfl
  | 1, _ => rfl
  | 2, _ => rfl
  | 3, _ => rfl
  | j + 4, hj => absurd hj (by omega)), rfl⟩
theorem nw_J5_43 : znw RJ5 43 22 6 [.null, .null, .null, .null, .null, .int 0] := ⟨_, _, rfl, q1466, q685, q107, fun j hj => (match j, hj with
  | 0, _ => rfl
  | 1, _ => rfl
  | 2, _ => rfl
  | 3, _ => rfl
  | 4, _ => rfl
  | 5, _ => rfl
  | j + 6, hj => absurd hj (by omega)), rfl⟩
theorem nw_J5_45 : znw RJ5 45 19 4 [.null, .int 0, .int 0, .int 0] := ⟨_, _, rfl, q1467, q324, q100, fun j hj => (match j, hj with
  | 0, _ => rfl
  | 1, _ => rfl
  | 2, _ => rfl
  | 3, _ => rfl
  | j + 4, hj => absurd hj (by omega)), rfl⟩
theorem cI_X1_15 : zcI RX1 15 yX2_init cX2_init 2 0 := ⟨⟨q144, q90, ⟨by decide, by decide⟩, by decide +kernel, by decide⟩, rfl, q142, q143⟩
theorem cI_X1_22 : zcI RX1 22 yJ7_init cJ7_init 1 0 := ⟨⟨q327, q100, ⟨by decide, by decide⟩, by decide +kernel, by decide⟩, rfl, q325, q326⟩
theorem cI_X1_29 : zcI RX1 29 yJ13_init cJ13_init 1 0 := ⟨⟨q734, q107, ⟨by decide, by decide⟩, by decide +kernel, by decide⟩, rfl, q732, q733⟩
theorem cI_X1_32 : zcI RX1 32 yJ15_init_2 cJ15_init_2 1 0 := ⟨⟨q828, q110, ⟨by decide, by decide⟩, by decide +kernel, by decide⟩, rfl, q826, q827⟩
theorem cI_X1_35 : zcI RX1 35 yJ19_init cJ19_init 1 0 := ⟨⟨q948, q116, ⟨by decide, by decide⟩, by decide +kernel, by decide⟩, rfl, q946, q947⟩
theorem cI_X1_38 : zcI RX1 38 yJ14_init cJ14_init 1 0 := ⟨⟨q769, q108, ⟨by decide, by decide⟩, by decide +kernel, by decide⟩, rfl, q767, q768⟩
theorem cI_X1_86 : zcI RX1 86 yX5_init cX5_init 4 3 := ⟨⟨q582, q109, ⟨by decide, by decide⟩, by decide +kernel, by decide⟩, rfl, q774, q581⟩
theorem cI_X1_124 : zcI RX1 124 yX7_init cX7_init 3 2 := ⟨⟨q881, q115, ⟨by decide, by decide⟩, by decide +kernel, by decide⟩, rfl, q879, q880⟩
theorem cI_X1_202 : zcI RX1 202 yJ2_init cJ2_init 1 0 := ⟨⟨q150, q93, ⟨by decide, by decide⟩, by decide +kernel, by decide⟩, rfl, q466, q149⟩
theorem cV_X1_224_X1 : zcVW RX1 224 RX1 [(0, 7, 10, 218)] yX1_settle cX1_settle 4 none 2 := ⟨⟨q1053, q89, ⟨by decide, by decide⟩, by decide +kernel, by decide⟩, q1050, q1052, qs21⟩
theorem cI_X1_232 : zcIN RX1 232 yX3_init cX3_init 1 0 := ⟨⟨q250, q98, ⟨by decide, by decide⟩, by decide +kernel, by decide⟩, _, rfl, q1042, q249⟩
theorem cV_X1_241_X1 : zcVW RX1 241 RX1 [(0, 6, 9, 218)] yX1_settled cX1_settled 4 (some .int) 2 := ⟨⟨q1048, q89, ⟨by decide, by decide⟩, by decide +kernel, by decide⟩, q1045, q1047, qs20⟩
theorem cI_X1_250 : zcI RX1 250 yX10_init cX10_init 4 3 := ⟨⟨q1136, q122, ⟨by decide, by decide⟩, by decide +kernel, by decide⟩, rfl, q1134, q1135⟩
theorem cI_X1_278 : zcI RX1 278 yX11_init cX11_init 3 2 := ⟨⟨q1236, q123, ⟨by decide, by decide⟩, by decide +kernel, by decide⟩, rfl, q1234, q1235⟩
theorem cI_X1_304 : zcI RX1 304 yX13_init cX13_init 2 1 := ⟨⟨q1575, q126, ⟨by decide, by decide⟩, by decide +kernel, by decide⟩, rfl, q1573, q1574⟩
theorem cI_X1_310 : zcI RX1 310 yX2_init_2 cX2_init_2 4 1 := ⟨⟨q569, q90, ⟨by decide, by decide⟩, by decide +kernel, by decide⟩, rfl, q567, q568⟩
theorem cI_X1_315 : zcI RX1 315 yX16_init cX16_init 2 1 := ⟨⟨q1680, q129, ⟨by decide, by decide⟩, by decide +kernel, by decide⟩, rfl, q1678, q1679⟩
theorem cV_X1_316_X16 : zcVW RX1 316 RX16 [(10, 22, 25, 44)] yX16_create cX16_create 4 none 1 := ⟨⟨q1689, q129, ⟨by decide, by decide⟩, by decide +kernel, by decide⟩, q1686, q1687, q1688⟩
theorem cI_X17_3 : zcI RX17 3 yX8_init cX8_init 2 1 := ⟨⟨q1091, q120, ⟨by decide, by decide⟩, by decide +kernel, by decide⟩, rfl, q1710, q1090⟩
theorem cI_X17_9 : zcI RX17 9 yX8_init_2 cX8_init_2 3 2 := ⟨⟨q1100, q120, ⟨by decide, by decide⟩, by decide +kernel, by decide⟩, rfl, q1730, q1099⟩
theorem cS_X16_15 : zcSN RX16 15 yX1_in cX1_in 3 (some .boolean) 3 := ⟨⟨q680, q89, ⟨by decide, by decide⟩, by decide +kernel, by decide⟩, _, q1723, q679⟩
theorem cI_X16_27 : zcI RX16 27 yX8_init cX8_init 2 1 := ⟨⟨q1091, q120, ⟨by decide, by decide⟩, by decide +kernel, by decide⟩, rfl, q1725, q1090⟩
theorem cI_X16_46 : zcI RX16 46 yX17_init cX17_init 2 1 := ⟨⟨q1709, q130, ⟨by decide, by decide⟩, by decide +kernel, by decide⟩, rfl, q1707, q1708⟩
theorem cS_X16_53 : zcSN RX16 53 yX1_areJobValues cX1_areJobValues 3 (some .boolean) 3 := ⟨⟨q677, q89, ⟨by decide, by decide⟩, by decide +kernel, by decide⟩, _, q1714, q676⟩
theorem cI_X16_58 : zcI RX16 58 yX5_init cX5_init 4 3 := ⟨⟨q582, q109, ⟨by decide, by decide⟩, by decide +kernel, by decide⟩, rfl, q1716, q581⟩
theorem cI_X16_77 : zcI RX16 77 yX17_init_2 cX17_init_2 2 1 := ⟨⟨q1729, q130, ⟨by decide, by decide⟩, by decide +kernel, by decide⟩, rfl, q1727, q1728⟩
theorem cV_X16_80_X16 : zcVW RX16 80 RX16 [(90, 130, 133, 25)] yX16_create_2 cX16_create_2 5 none 1 := ⟨⟨q1697, q129, ⟨by decide, by decide⟩, by decide +kernel, by decide⟩, q1694, q1696, qs41⟩
theorem cI_X16_85 : zcI RX16 85 yX18_init cX18_init 3 2 := ⟨⟨q1742, q131, ⟨by decide, by decide⟩, by decide +kernel, by decide⟩, rfl, q1740, q1741⟩
theorem cI_X9_5 : zcI RX9 5 yX8_init cX8_init 2 1 := ⟨⟨q1091, q120, ⟨by decide, by decide⟩, by decide +kernel, by decide⟩, rfl, q1089, q1090⟩
theorem cI_X9_9 : zcI RX9 9 yX8_init_2 cX8_init_2 3 2 := ⟨⟨q1100, q120, ⟨by decide, by decide⟩, by decide +kernel, by decide⟩, rfl, q1098, q1099⟩
theorem cV_X10_78_X2 : zcVN RX10 78 RX2 yX2_earlier cX2_earlier 2 (some .int) 1 := ⟨⟨q416, q90, ⟨by decide, by decide⟩, by decide +kernel, by decide⟩, _, q1177, q415, qs6⟩
theorem cV_X10_93_X2 : zcVN RX10 93 RX2 yX2_unhindered cX2_unhindered 6 (some .int) 2 := ⟨⟨q434, q90, ⟨by decide, by decide⟩, by decide +kernel, by decide⟩, _, q1183, q433, qs8⟩
theorem cI_X8_1 : zcI RX8 1 yJ11_init cJ11_init 1 0 := ⟨⟨q740, q105, ⟨by decide, by decide⟩, by decide +kernel, by decide⟩, rfl, q1092, q739⟩
theorem cI_X8_13 : zcI RX8 13 yJ11_init_3 cJ11_init_3 3 2 := ⟨⟨q1103, q105, ⟨by decide, by decide⟩, by decide +kernel, by decide⟩, rfl, q1101, q1102⟩
theorem cI_X5_15 : zcI RX5 15 yJ2_init cJ2_init 1 0 := ⟨⟨q150, q93, ⟨by decide, by decide⟩, by decide +kernel, by decide⟩, rfl, q585, q149⟩
theorem cI_X13_38 : zcI RX13 38 yX15_init cX15_init 2 1 := ⟨⟨q1652, q128, ⟨by decide, by decide⟩, by decide +kernel, by decide⟩, rfl, q1650, q1651⟩
theorem cS_X13_41 : zcSN RX13 41 yX1_in cX1_in 3 (some .boolean) 3 := ⟨⟨q680, q89, ⟨by decide, by decide⟩, by decide +kernel, by decide⟩, _, q1670, q679⟩
theorem cI_X13_56 : zcIN RX13 56 yX14_init cX14_init 1 0 := ⟨⟨q1598, q127, ⟨by decide, by decide⟩, by decide +kernel, by decide⟩, _, rfl, q1596, q1597⟩
theorem cI_X13_75 : zcI RX13 75 yJ2_init cJ2_init 1 0 := ⟨⟨q150, q93, ⟨by decide, by decide⟩, by decide +kernel, by decide⟩, rfl, q1589, q149⟩
theorem cI_X18_5 : zcI RX18 5 yX8_init_2 cX8_init_2 3 2 := ⟨⟨q1100, q120, ⟨by decide, by decide⟩, by decide +kernel, by decide⟩, rfl, q1744, q1099⟩
theorem cI_X11_11 : zcI RX11 11 yJ2_init cJ2_init 1 0 := ⟨⟨q150, q93, ⟨by decide, by decide⟩, by decide +kernel, by decide⟩, rfl, q1239, q149⟩
theorem cI_X11_119 : zcI RX11 119 yX12_init cX12_init 4 3 := ⟨⟨q1309, q124, ⟨by decide, by decide⟩, by decide +kernel, by decide⟩, rfl, q1307, q1308⟩
theorem cI_X2_11 : zcI RX2 11 yJ2_init cJ2_init 1 0 := ⟨⟨q150, q93, ⟨by decide, by decide⟩, by decide +kernel, by decide⟩, rfl, q148, q149⟩
theorem cI_X2_53 : zcIN RX2 53 yX3_init cX3_init 1 0 := ⟨⟨q250, q98, ⟨by decide, by decide⟩, by decide +kernel, by decide⟩, _, rfl, q248, q249⟩
theorem cI_X2_54 : zcI RX2 54 yX2_init cX2_init 2 0 := ⟨⟨q144, q90, ⟨by decide, by decide⟩, by decide +kernel, by decide⟩, rfl, q570, q143⟩
theorem cI_X2_74 : zcI RX2 74 yX5_init cX5_init 4 3 := ⟨⟨q582, q109, ⟨by decide, by decide⟩, by decide +kernel, by decide⟩, rfl, q580, q581⟩
theorem cI_X2_112 : zcI RX2 112 yX6_init cX6_init 7 6 := ⟨⟨q603, q114, ⟨by decide, by decide⟩, by decide +kernel, by decide⟩, rfl, q601, q602⟩
theorem cI_X2_196 : zcI RX2 196 yX9_init cX9_init 3 2 := ⟨⟨q1079, q121, ⟨by decide, by decide⟩, by decide +kernel, by decide⟩, rfl, q1077, q1078⟩
theorem cI_X15_5 : zcI RX15 5 yX8_init cX8_init 2 1 := ⟨⟨q1091, q120, ⟨by decide, by decide⟩, by decide +kernel, by decide⟩, rfl, q1654, q1090⟩
theorem cI_X15_9 : zcI RX15 9 yX8_init_2 cX8_init_2 3 2 := ⟨⟨q1100, q120, ⟨by decide, by decide⟩, by decide +kernel, by decide⟩, rfl, q1655, q1099⟩
theorem cI_X14_15 : zcI RX14 15 yJ2_init cJ2_init 1 0 := ⟨⟨q150, q93, ⟨by decide, by decide⟩, by decide +kernel, by decide⟩, rfl, q1601, q149⟩
theorem cV_X0_104_X1 : zcVW RX0 104 RX1 [(19, 24, 25, 327), (19, 24, 39, 329)] yX1_read cX1_read 3 (some .int) 0 := ⟨⟨q1435, q89, ⟨by decide, by decide⟩, by decide +kernel, by decide⟩, q1432, q1433, q1434⟩
theorem cI_X0_114 : zcI RX0 114 yX1_init cX1_init 1 0 := ⟨⟨q136, q89, ⟨by decide, by decide⟩, by decide +kernel, by decide⟩, rfl, q134, q135⟩
theorem cI_X0_117 : zcI RX0 117 yX4_init cX4_init 1 0 := ⟨⟨q1790, q103, ⟨by decide, by decide⟩, by decide +kernel, by decide⟩, rfl, q1788, q1789⟩
theorem cS_X0_118 : zcSW RX0 118 [(0, 12, 15, 13), (0, 12, 19, 15)] yX0_addJob cX0_addJob 6 (some .int) 5 := ⟨⟨q668, q88, ⟨by decide, by decide⟩, by decide +kernel, by decide⟩, q666, q667⟩
theorem cS_X0_127 : zcSW RX0 127 [(0, 14, 17, 21), (0, 14, 21, 13), (0, 14, 25, 15)] yX0_addOperation cX0_addOperation 7 (some .int) 6 := ⟨⟨q777, q88, ⟨by decide, by decide⟩, by decide +kernel, by decide⟩, q775, q776⟩
theorem cS_X0_131 : zcSW RX0 131 [(0, 12, 15, 21), (0, 12, 19, 13)] yX0_setJob cX0_setJob 6 (some .int) 5 := ⟨⟨q843, q88, ⟨by decide, by decide⟩, by decide +kernel, by decide⟩, q841, q842⟩
theorem cS_X0_134 : zcSW RX0 134 [(0, 10, 13, 21), (0, 10, 17, 13)] yX0_setDuration cX0_setDuration 5 (some .int) 4 := ⟨⟨q854, q88, ⟨by decide, by decide⟩, by decide +kernel, by decide⟩, q852, q853⟩
theorem cS_X0_138 : zcSW RX0 138 [(0, 12, 15, 21), (0, 12, 19, 13)] yX0_setSetup cX0_setSetup 6 (some .int) 5 := ⟨⟨q865, q88, ⟨by decide, by decide⟩, by decide +kernel, by decide⟩, q863, q864⟩
theorem cS_X0_141 : zcSW RX0 141 [(0, 12, 15, 21), (0, 12, 19, 13), (0, 12, 23, 15)] yX0_addBreakdown cX0_addBreakdown 6 (some .int) 5 := ⟨⟨q872, q88, ⟨by decide, by decide⟩, by decide +kernel, by decide⟩, q870, q871⟩
theorem cS_X0_144 : zcSW RX0 144 [(0, 9, 12, 21)] yX0_clearBreakdowns cX0_clearBreakdowns 4 (some .int) 3 := ⟨⟨q894, q88, ⟨by decide, by decide⟩, by decide +kernel, by decide⟩, q892, q893⟩
theorem cS_X0_148 : zcSW RX0 148 [(0, 9, 12, 13)] yX0_count cX0_count 4 (some .int) 3 := ⟨⟨q905, q88, ⟨by decide, by decide⟩, by decide +kernel, by decide⟩, q903, q904⟩
theorem cS_X0_151 : zcSW RX0 151 [(0, 10, 13, 21), (0, 10, 17, 13)] yX0_property cX0_property 5 (some .int) 4 := ⟨⟨q912, q88, ⟨by decide, by decide⟩, by decide +kernel, by decide⟩, q910, q911⟩
theorem cS_X0_154 : zcSW RX0 154 [(0, 10, 13, 21), (0, 10, 17, 49)] yX0_order cX0_order 5 (some .int) 4 := ⟨⟨q924, q88, ⟨by decide, by decide⟩, by decide +kernel, by decide⟩, q922, q923⟩
theorem cS_X0_157 : zcSW RX0 157 [(0, 10, 13, 21), (0, 10, 17, 13)] yX0_time cX0_time 5 (some .int) 4 := ⟨⟨q954, q88, ⟨by decide, by decide⟩, by decide +kernel, by decide⟩, q952, q953⟩
theorem cS_X0_164 : zcSW RX0 164 [(0, 9, 12, 21)] yX0_slack cX0_slack 4 (some .int) 3 := ⟨⟨q961, q88, ⟨by decide, by decide⟩, by decide +kernel, by decide⟩, q959, q960⟩
theorem cS_X0_167 : zcSW RX0 167 [(0, 9, 12, 21)] yX0_completion cX0_completion 4 (some .int) 3 := ⟨⟨q972, q88, ⟨by decide, by decide⟩, by decide +kernel, by decide⟩, q970, q971⟩
theorem cS_X0_170 : zcSW RX0 170 [(0, 9, 12, 13)] yX0_objective cX0_objective 4 (some .int) 3 := ⟨⟨q983, q88, ⟨by decide, by decide⟩, by decide +kernel, by decide⟩, q981, q982⟩
theorem cS_X0_173 : zcSW RX0 173 [(0, 8, 11, 21)] yX0_utilization cX0_utilization 4 (some .int) 3 := ⟨⟨q1008, q88, ⟨by decide, by decide⟩, by decide +kernel, by decide⟩, q1006, q1007⟩
theorem cS_X0_181 : zcSW RX0 181 [(0, 9, 12, 49)] yX0_path cX0_path 4 (some .int) 3 := ⟨⟨q1015, q88, ⟨by decide, by decide⟩, by decide +kernel, by decide⟩, q1013, q1014⟩
theorem cS_X0_188 : zcSW RX0 188 [(0, 9, 12, 49)] yX0_blockLength cX0_blockLength 4 (some .int) 3 := ⟨⟨q1022, q88, ⟨by decide, by decide⟩, by decide +kernel, by decide⟩, q1020, q1021⟩
theorem cS_X0_191 : zcSW RX0 191 [(0, 10, 13, 21), (0, 10, 17, 49), (0, 10, 21, 15)] yX0_swap cX0_swap 5 (some .int) 4 := ⟨⟨q1034, q88, ⟨by decide, by decide⟩, by decide +kernel, by decide⟩, q1032, q1033⟩
theorem cS_X0_194 : zcSW RX0 194 [(0, 10, 13, 21), (0, 10, 17, 13), (0, 10, 21, 15)] yX0_move cX0_move 5 (some .int) 4 := ⟨⟨q1112, q88, ⟨by decide, by decide⟩, by decide +kernel, by decide⟩, q1110, q1111⟩
theorem cS_X0_197 : zcSW RX0 197 [(0, 9, 12, 13)] yX0_dispatch cX0_dispatch 4 (some .int) 3 := ⟨⟨q1123, q88, ⟨by decide, by decide⟩, by decide +kernel, by decide⟩, q1121, q1122⟩
theorem cS_X0_200 : zcSW RX0 200 [(0, 10, 13, 13)] yX0_repair cX0_repair 5 (some .int) 4 := ⟨⟨q1193, q88, ⟨by decide, by decide⟩, by decide +kernel, by decide⟩, q1191, q1192⟩
theorem cS_X0_203 : zcSW RX0 203 [(0, 9, 12, 21)] yX0_best cX0_best 4 (some .int) 3 := ⟨⟨q1200, q88, ⟨by decide, by decide⟩, by decide +kernel, by decide⟩, q1198, q1199⟩
theorem cS_X0_206 : zcSW RX0 206 [(0, 9, 12, 21)] yX0_reoptimize cX0_reoptimize 4 (some .int) 3 := ⟨⟨q1208, q88, ⟨by decide, by decide⟩, by decide +kernel, by decide⟩, q1206, q1207⟩
theorem cS_X0_213 : zcSW RX0 213 [(0, 9, 12, 49)] yX0_bottleneck cX0_bottleneck 4 (some .int) 3 := ⟨⟨q1220, q88, ⟨by decide, by decide⟩, by decide +kernel, by decide⟩, q1218, q1219⟩
theorem cS_X0_216 : zcSW RX0 216 [(0, 10, 13, 13)] yX0_tabu cX0_tabu 5 (some .int) 4 := ⟨⟨q1227, q88, ⟨by decide, by decide⟩, by decide +kernel, by decide⟩, q1225, q1226⟩
theorem cS_X0_223 : zcSW RX0 223 [(0, 9, 12, 21)] yX0_bound cX0_bound 4 (some .int) 3 := ⟨⟨q1331, q88, ⟨by decide, by decide⟩, by decide +kernel, by decide⟩, q1329, q1330⟩
theorem cS_X0_230 : zcSW RX0 230 [(0, 5, 8, 15)] yX0_append cX0_append 3 (some .int) 2 := ⟨⟨q1339, q88, ⟨by decide, by decide⟩, by decide +kernel, by decide⟩, q1337, q1338⟩
theorem cS_X0_234 : zcSW RX0 234 [(0, 8, 11, 13), (0, 8, 14, 15)] yX0_read cX0_read 3 (some .int) 2 := ⟨⟨q1431, q88, ⟨by decide, by decide⟩, by decide +kernel, by decide⟩, q1429, q1430⟩
theorem cS_X0_238 : zcSW RX0 238 [(0, 9, 12, 13)] yX0_failure cX0_failure 4 (some .int) 3 := ⟨⟨q1750, q88, ⟨by decide, by decide⟩, by decide +kernel, by decide⟩, q1748, q1749⟩
theorem cS_X0_245 : zcSW RX0 245 [(0, 4, 7, 15)] yX0_restore cX0_restore 2 (some .int) 1 := ⟨⟨q1781, q88, ⟨by decide, by decide⟩, by decide +kernel, by decide⟩, q1779, q1780⟩
theorem cI_J16_7 : zcI RJ16 7 yJ15_init cJ15_init 2 1 := ⟨⟨q784, q110, ⟨by decide, by decide⟩, by decide +kernel, by decide⟩, rfl, q782, q783⟩
theorem cI_J11_1 : zcI RJ11 1 yJ10_init cJ10_init 1 0 := ⟨⟨q708, q104, ⟨by decide, by decide⟩, by decide +kernel, by decide⟩, rfl, q741, q707⟩
theorem cI_J11_7 : zcI RJ11 7 yJ10_init_2 cJ10_init_2 2 1 := ⟨⟨q793, q104, ⟨by decide, by decide⟩, by decide +kernel, by decide⟩, rfl, q791, q792⟩
theorem cI_J11_10 : zcI RJ11 10 yJ10_init_3 cJ10_init_3 3 2 := ⟨⟨q1106, q104, ⟨by decide, by decide⟩, by decide +kernel, by decide⟩, rfl, q1104, q1105⟩
theorem cI_J13_1 : zcI RJ13 1 yJ12_init cJ12_init 1 0 := ⟨⟨q737, q106, ⟨by decide, by decide⟩, by decide +kernel, by decide⟩, rfl, q735, q736⟩
theorem cI_J13_7 : zcI RJ13 7 yJ12_init_2 cJ12_init_2 2 1 := ⟨⟨q787, q106, ⟨by decide, by decide⟩, by decide +kernel, by decide⟩, rfl, q1546, q786⟩
theorem cI_J14_1 : zcI RJ14 1 yJ12_init cJ12_init 1 0 := ⟨⟨q737, q106, ⟨by decide, by decide⟩, by decide +kernel, by decide⟩, rfl, q770, q736⟩
theorem cI_J15_1 : zcI RJ15 1 yJ12_init cJ12_init 1 0 := ⟨⟨q737, q106, ⟨by decide, by decide⟩, by decide +kernel, by decide⟩, rfl, q829, q736⟩
theorem cI_J15_7 : zcI RJ15 7 yJ12_init_2 cJ12_init_2 2 1 := ⟨⟨q787, q106, ⟨by decide, by decide⟩, by decide +kernel, by decide⟩, rfl, q785, q786⟩
theorem cI_J21_199 : zcI RJ21 199 yJ21_init cJ21_init 2 1 := ⟨⟨q480, q118, ⟨by decide, by decide⟩, by decide +kernel, by decide⟩, rfl, q478, q479⟩
theorem cI_J21_202 : zcI RJ21 202 yJ20_init cJ20_init 1 0 := ⟨⟨q483, q117, ⟨by decide, by decide⟩, by decide +kernel, by decide⟩, rfl, q481, q482⟩
theorem cI_J12_1 : zcI RJ12 1 yJ11_init cJ11_init 1 0 := ⟨⟨q740, q105, ⟨by decide, by decide⟩, by decide +kernel, by decide⟩, rfl, q738, q739⟩
theorem cI_J12_7 : zcI RJ12 7 yJ11_init_2 cJ11_init_2 2 1 := ⟨⟨q790, q105, ⟨by decide, by decide⟩, by decide +kernel, by decide⟩, rfl, q788, q789⟩
theorem cI_J8_489 : zcI RJ8 489 yJ8_init_2 cJ8_init_2 5 2 := ⟨⟨q1448, q101, ⟨by decide, by decide⟩, by decide +kernel, by decide⟩, rfl, q1446, q1447⟩
theorem cI_J7_1 : zcI RJ7 1 yJ6_init cJ6_init 2 1 := ⟨⟨q330, q99, ⟨by decide, by decide⟩, by decide +kernel, by decide⟩, rfl, q328, q329⟩
theorem cI_J7_137 : zcI RJ7 137 yJ8_init cJ8_init 2 1 := ⟨⟨q1445, q101, ⟨by decide, by decide⟩, by decide +kernel, by decide⟩, rfl, q1443, q1444⟩
theorem cI_J1_1 : zcI RJ1 1 yJ0_init cJ0_init 1 0 := ⟨⟨q156, q91, ⟨by decide, by decide⟩, by decide +kernel, by decide⟩, rfl, q154, q155⟩
theorem cI_J2_1 : zcI RJ2 1 yJ1_init cJ1_init 1 0 := ⟨⟨q153, q92, ⟨by decide, by decide⟩, by decide +kernel, by decide⟩, rfl, q151, q152⟩
theorem cI_J5_47 : zcI RJ5 47 yJ7_init cJ7_init 1 0 := ⟨⟨q327, q100, ⟨by decide, by decide⟩, by decide +kernel, by decide⟩, rfl, q1468, q326⟩
theorem cI_J5_65 : zcI RJ5 65 yJ13_init_2 cJ13_init_2 2 1 := ⟨⟨q1545, q107, ⟨by decide, by decide⟩, by decide +kernel, by decide⟩, rfl, q1543, q1544⟩
theorem cI_J19_1 : zcI RJ19 1 yJ12_init cJ12_init 1 0 := ⟨⟨q737, q106, ⟨by decide, by decide⟩, by decide +kernel, by decide⟩, rfl, q949, q736⟩
