/-! printed by gen.py: PegLawsModel -/
set_option maxRecDepth 100000
theorem rg_641 {K : mm_K} {a : Nat} (h : K.1 a = 5) : mm_reg K 641 a 1 0 1000 := Or.inl ⟨5, 1, rfl, h, by decide, rfl⟩
theorem rg_644 {K : mm_K} {a : Nat} (h : K.1 a = 5) : mm_reg K 644 a 2 0 1002 := Or.inl ⟨5, 4, rfl, h, by decide, rfl⟩
theorem rg_645 {K : mm_K} {a : Nat} (h : K.1 a = 5) : mm_reg K 645 a 3 0 1002 := Or.inl ⟨5, 5, rfl, h, by decide, rfl⟩
theorem rg_646 {K : mm_K} {a : Nat} (h : K.1 a = 5) : mm_reg K 646 a 4 2 1002 := Or.inl ⟨5, 6, rfl, h, by decide, rfl⟩
theorem rg_649 {K : mm_K} {a : Nat} (h : K.1 a = 5) : mm_reg K 649 a 5 2 26 := Or.inl ⟨5, 9, rfl, h, by decide, rfl⟩
theorem rg_650 {K : mm_K} {a : Nat} (h : K.1 a = 5) : mm_reg K 650 a 6 0 200 := Or.inl ⟨5, 10, rfl, h, by decide, rfl⟩
theorem rg_651 {K : mm_K} {a : Nat} (h : K.1 a = 5) : mm_reg K 651 a 7 0 2200 := Or.inl ⟨5, 11, rfl, h, by decide, rfl⟩
theorem rg_652 {K : mm_K} {a : Nat} (h : K.1 a = 5) : mm_reg K 652 a 8 0 2200 := Or.inl ⟨5, 12, rfl, h, by decide, rfl⟩
theorem rg_654 {K : mm_K} {a : Nat} (h : K.1 a = 5) : mm_reg K 654 a 9 2 6 := Or.inl ⟨5, 14, rfl, h, by decide, rfl⟩
theorem rg_655 {K : mm_K} {a : Nat} (h : K.1 a = 5) : mm_reg K 655 a 10 2 6 := Or.inl ⟨5, 15, rfl, h, by decide, rfl⟩
theorem rg_659 {K : mm_K} {a : Nat} (h : K.1 a = 5) : mm_reg K 659 a 11 0 200 := Or.inl ⟨5, 19, rfl, h, by decide, rfl⟩
theorem rg_660 {K : mm_K} {a : Nat} (h : K.1 a = 5) : mm_reg K 660 a 12 0 3 := Or.inl ⟨5, 20, rfl, h, by decide, rfl⟩
theorem rg_661 {K : mm_K} {a : Nat} (h : K.1 a = 5) : mm_reg K 661 a 13 0 1100 := Or.inl ⟨5, 21, rfl, h, by decide, rfl⟩
theorem rg_662 {K : mm_K} {a : Nat} (h : K.1 a = 5) : mm_reg K 662 a 14 0 1242 := Or.inl ⟨5, 22, rfl, h, by decide, rfl⟩
theorem rg_664 {K : mm_K} {a : Nat} (h : K.1 a = 5) : mm_reg K 664 a 15 3 4 := Or.inl ⟨5, 24, rfl, h, by decide, rfl⟩
theorem rg_665 {K : mm_K} {a : Nat} (h : K.1 a = 5) : mm_reg K 665 a 16 0 6 := Or.inl ⟨5, 25, rfl, h, by decide, rfl⟩
theorem rg_666 {K : mm_K} {a : Nat} (h : K.1 a = 5) : mm_reg K 666 a 17 0 6 := Or.inl ⟨5, 26, rfl, h, by decide, rfl⟩
theorem rg_667 {K : mm_K} {a : Nat} (h : K.1 a = 5) : mm_reg K 667 a 18 0 6 := Or.inl ⟨5, 27, rfl, h, by decide, rfl⟩
theorem rg_670 {K : mm_K} {a : Nat} (h : K.1 a = 5) : mm_reg K 670 a 19 0 72 := Or.inl ⟨5, 30, rfl, h, by decide, rfl⟩
theorem rg_671 {K : mm_K} {a : Nat} (h : K.1 a = 5) : mm_reg K 671 a 20 0 36 := Or.inl ⟨5, 31, rfl, h, by decide, rfl⟩
theorem rg_672 {K : mm_K} {a : Nat} (h : K.1 a = 5) : mm_reg K 672 a 21 0 6 := Or.inl ⟨5, 32, rfl, h, by decide, rfl⟩
theorem rg_673 {K : mm_K} {a : Nat} (h : K.1 a = 5) : mm_reg K 673 a 22 0 6 := Or.inl ⟨5, 33, rfl, h, by decide, rfl⟩
theorem rg_676 {K : mm_K} {a : Nat} (h : K.1 a = 5) : mm_reg K 676 a 23 0 10 := Or.inl ⟨5, 36, rfl, h, by decide, rfl⟩
theorem ff_X5_101_37 : mm_FF RX5 101 37 15 mm_r (tyX5 15) := ⟨RX5, TX5, 38, _, tyX5, rfl, in_X5, rfl, rfl, Nat.le_of_ble_eq_true rfl, q1678, tyX5_ok, nmX5, rfl, rfl, rfl⟩
theorem ff_X5_104_37 : mm_FF RX5 104 37 19 mm_r (tyX5 19) := ⟨RX5, TX5, 38, _, tyX5, rfl, in_X5, rfl, rfl, Nat.le_of_ble_eq_true rfl, q1682, tyX5_ok, nmX5, rfl, rfl, rfl⟩
theorem ff_X5_107_37 : mm_FF RX5 107 37 20 mm_r (tyX5 20) := ⟨RX5, TX5, 38, _, tyX5, rfl, in_X5, rfl, rfl, Nat.le_of_ble_eq_true rfl, q1683, tyX5_ok, nmX5, rfl, rfl, rfl⟩
theorem ff_X5_110_37 : mm_FF RX5 110 37 21 mm_r (tyX5 21) := ⟨RX5, TX5, 38, _, tyX5, rfl, in_X5, rfl, rfl, Nat.le_of_ble_eq_true rfl, q1684, tyX5_ok, nmX5, rfl, rfl, rfl⟩
theorem ff_X5_113_37 : mm_FF RX5 113 37 22 mm_r (tyX5 22) := ⟨RX5, TX5, 38, _, tyX5, rfl, in_X5, rfl, rfl, Nat.le_of_ble_eq_true rfl, q1685, tyX5_ok, nmX5, rfl, rfl, rfl⟩
theorem ff_X5_116_37 : mm_FF RX5 116 37 24 mm_r (tyX5 24) := ⟨RX5, TX5, 38, _, tyX5, rfl, in_X5, rfl, rfl, Nat.le_of_ble_eq_true rfl, q1687, tyX5_ok, nmX5, rfl, rfl, rfl⟩
theorem ff_X5_120_37 : mm_FF RX5 120 37 25 mm_r (tyX5 25) := ⟨RX5, TX5, 38, _, tyX5, rfl, in_X5, rfl, rfl, Nat.le_of_ble_eq_true rfl, q1688, tyX5_ok, nmX5, rfl, rfl, rfl⟩
theorem ff_X5_123_37 : mm_FF RX5 123 37 26 mm_r (tyX5 26) := ⟨RX5, TX5, 38, _, tyX5, rfl, in_X5, rfl, rfl, Nat.le_of_ble_eq_true rfl, q1689, tyX5_ok, nmX5, rfl, rfl, rfl⟩
theorem ff_X5_126_37 : mm_FF RX5 126 37 27 mm_r (tyX5 27) := ⟨RX5, TX5, 38, _, tyX5, rfl, in_X5, rfl, rfl, Nat.le_of_ble_eq_true rfl, q1690, tyX5_ok, nmX5, rfl, rfl, rfl⟩
theorem ff_X5_129_37 : mm_FF RX5 129 37 30 mm_r (tyX5 30) := ⟨RX5, TX5, 38, _, tyX5, rfl, in_X5, rfl, rfl, Nat.le_of_ble_eq_true rfl, q1693, tyX5_ok, nmX5, rfl, rfl, rfl⟩
theorem ff_X5_132_37 : mm_FF RX5 132 37 31 mm_r (tyX5 31) := ⟨RX5, TX5, 38, _, tyX5, rfl, in_X5, rfl, rfl, Nat.le_of_ble_eq_true rfl, q1694, tyX5_ok, nmX5, rfl, rfl, rfl⟩
theorem ff_X5_135_37 : mm_FF RX5 135 37 32 mm_r (tyX5 32) := ⟨RX5, TX5, 38, _, tyX5, rfl, in_X5, rfl, rfl, Nat.le_of_ble_eq_true rfl, q1695, tyX5_ok, nmX5, rfl, rfl, rfl⟩
theorem ff_X5_138_37 : mm_FF RX5 138 37 33 mm_r (tyX5 33) := ⟨RX5, TX5, 38, _, tyX5, rfl, in_X5, rfl, rfl, Nat.le_of_ble_eq_true rfl, q1696, tyX5_ok, nmX5, rfl, rfl, rfl⟩
theorem ff_X5_141_37 : mm_FF RX5 141 37 36 mm_r (tyX5 36) := ⟨RX5, TX5, 38, _, tyX5, rfl, in_X5, rfl, rfl, Nat.le_of_ble_eq_true rfl, q1699, tyX5_ok, nmX5, rfl, rfl, rfl⟩
theorem ff_X5_14_37 : mm_FF RX5 14 37 1 mm_r (tyX5 1) := ⟨RX5, TX5, 38, _, tyX5, rfl, in_X5, rfl, rfl, Nat.le_of_ble_eq_true rfl, q1664, tyX5_ok, nmX5, rfl, rfl, rfl⟩
theorem ff_X5_24_37 : mm_FF RX5 24 37 4 mm_r (tyX5 4) := ⟨RX5, TX5, 38, _, tyX5, rfl, in_X5, rfl, rfl, Nat.le_of_ble_eq_true rfl, q1667, tyX5_ok, nmX5, rfl, rfl, rfl⟩
theorem ff_X5_27_37 : mm_FF RX5 27 37 5 mm_r (tyX5 5) := ⟨RX5, TX5, 38, _, tyX5, rfl, in_X5, rfl, rfl, Nat.le_of_ble_eq_true rfl, q1668, tyX5_ok, nmX5, rfl, rfl, rfl⟩
theorem ff_X5_30_37 : mm_FF RX5 30 37 6 mm_r (tyX5 6) := ⟨RX5, TX5, 38, _, tyX5, rfl, in_X5, rfl, rfl, Nat.le_of_ble_eq_true rfl, q1669, tyX5_ok, nmX5, rfl, rfl, rfl⟩
theorem ff_X5_86_37 : mm_FF RX5 86 37 9 mm_r (tyX5 9) := ⟨RX5, TX5, 38, _, tyX5, rfl, in_X5, rfl, rfl, Nat.le_of_ble_eq_true rfl, q1672, tyX5_ok, nmX5, rfl, rfl, rfl⟩
theorem ff_X5_89_37 : mm_FF RX5 89 37 10 mm_r (tyX5 10) := ⟨RX5, TX5, 38, _, tyX5, rfl, in_X5, rfl, rfl, Nat.le_of_ble_eq_true rfl, q1673, tyX5_ok, nmX5, rfl, rfl, rfl⟩
theorem ff_X5_92_37 : mm_FF RX5 92 37 11 mm_r (tyX5 11) := ⟨RX5, TX5, 38, _, tyX5, rfl, in_X5, rfl, rfl, Nat.le_of_ble_eq_true rfl, q1674, tyX5_ok, nmX5, rfl, rfl, rfl⟩
theorem ff_X5_95_37 : mm_FF RX5 95 37 12 mm_r (tyX5 12) := ⟨RX5, TX5, 38, _, tyX5, rfl, in_X5, rfl, rfl, Nat.le_of_ble_eq_true rfl, q1675, tyX5_ok, nmX5, rfl, rfl, rfl⟩
theorem ff_X5_98_37 : mm_FF RX5 98 37 14 mm_r (tyX5 14) := ⟨RX5, TX5, 38, _, tyX5, rfl, in_X5, rfl, rfl, Nat.le_of_ble_eq_true rfl, q1677, tyX5_ok, nmX5, rfl, rfl, rfl⟩
theorem fl_X5_1 : mm_FL RX5 1 5 0 mm_i .int false := ⟨RX5, TX5, 38, _, tyX5, rfl, in_X5, rfl, rfl, Nat.le_of_ble_eq_true rfl, Or.inl q1663, tyX5_ok, nmX5, rfl, rfl⟩
theorem fl_X5_101 : mm_FL RX5 101 5 15 (mm_a 10 2 6) (tyX5 15) true := ⟨RX5, TX5, 38, _, tyX5, rfl, in_X5, rfl, rfl, Nat.le_of_ble_eq_true rfl, Or.inl q1678, tyX5_ok, nmX5, rfl, rfl⟩
theorem fl_X5_104 : mm_FL RX5 104 5 19 (mm_a 11 0 200) (tyX5 19) true := ⟨RX5, TX5, 38, _, tyX5, rfl, in_X5, rfl, rfl, Nat.le_of_ble_eq_true rfl, Or.inl q1682, tyX5_ok, nmX5, rfl, rfl⟩
theorem fl_X5_107 : mm_FL RX5 107 5 20 (mm_a 12 0 3) (tyX5 20) true := ⟨RX5, TX5, 38, _, tyX5, rfl, in_X5, rfl, rfl, Nat.le_of_ble_eq_true rfl, Or.inl q1683, tyX5_ok, nmX5, rfl, rfl⟩
theorem fl_X5_11 : mm_FL RX5 11 5 2 mm_i .int false := ⟨RX5, TX5, 38, _, tyX5, rfl, in_X5, rfl, rfl, Nat.le_of_ble_eq_true rfl, Or.inl q1665, tyX5_ok, nmX5, rfl, rfl⟩
theorem fl_X5_110 : mm_FL RX5 110 5 21 (mm_a 13 0 1100) (tyX5 21) true := ⟨RX5, TX5, 38, _, tyX5, rfl, in_X5, rfl, rfl, Nat.le_of_ble_eq_true rfl, Or.inl q1684, tyX5_ok, nmX5, rfl, rfl⟩
theorem fl_X5_113 : mm_FL RX5 113 5 22 (mm_a 14 0 1242) (tyX5 22) true := ⟨RX5, TX5, 38, _, tyX5, rfl, in_X5, rfl, rfl, Nat.le_of_ble_eq_true rfl, Or.inl q1685, tyX5_ok, nmX5, rfl, rfl⟩
theorem fl_X5_116 : mm_FL RX5 116 5 24 (mm_a 15 3 4) (tyX5 24) true := ⟨RX5, TX5, 38, _, tyX5, rfl, in_X5, rfl, rfl, Nat.le_of_ble_eq_true rfl, Or.inl q1687, tyX5_ok, nmX5, rfl, rfl⟩
theorem fl_X5_120 : mm_FL RX5 120 5 25 (mm_a 16 0 6) (tyX5 25) true := ⟨RX5, TX5, 38, _, tyX5, rfl, in_X5, rfl, rfl, Nat.le_of_ble_eq_true rfl, Or.inl q1688, tyX5_ok, nmX5, rfl, rfl⟩
theorem fl_X5_123 : mm_FL RX5 123 5 26 (mm_a 17 0 6) (tyX5 26) true := ⟨RX5, TX5, 38, _, tyX5, rfl, in_X5, rfl, rfl, Nat.le_of_ble_eq_true rfl, Or.inl q1689, tyX5_ok, nmX5, rfl, rfl⟩
theorem fl_X5_126 : mm_FL RX5 126 5 27 (mm_a 18 0 6) (tyX5 27) true := ⟨RX5, TX5, 38, _, tyX5, rfl, in_X5, rfl, rfl, Nat.le_of_ble_eq_true rfl, Or.inl q1690, tyX5_ok, nmX5, rfl, rfl⟩
theorem fl_X5_129 : mm_FL RX5 129 5 30 (mm_a 19 0 72) (tyX5 30) true := ⟨RX5, TX5, 38, _, tyX5, rfl, in_X5, rfl, rfl, Nat.le_of_ble_eq_true rfl, Or.inl q1693, tyX5_ok, nmX5, rfl, rfl⟩
theorem fl_X5_132 : mm_FL RX5 132 5 31 (mm_a 20 0 36) (tyX5 31) true := ⟨RX5, TX5, 38, _, tyX5, rfl, in_X5, rfl, rfl, Nat.le_of_ble_eq_true rfl, Or.inl q1694, tyX5_ok, nmX5, rfl, rfl⟩
theorem fl_X5_135 : mm_FL RX5 135 5 32 (mm_a 21 0 6) (tyX5 32) true := ⟨RX5, TX5, 38, _, tyX5, rfl, in_X5, rfl, rfl, Nat.le_of_ble_eq_true rfl, Or.inl q1695, tyX5_ok, nmX5, rfl, rfl⟩
theorem fl_X5_138 : mm_FL RX5 138 5 33 (mm_a 22 0 6) (tyX5 33) true := ⟨RX5, TX5, 38, _, tyX5, rfl, in_X5, rfl, rfl, Nat.le_of_ble_eq_true rfl, Or.inl q1696, tyX5_ok, nmX5, rfl, rfl⟩
theorem fl_X5_14 : mm_FL RX5 14 5 1 (mm_a 1 0 1000) (tyX5 1) true := ⟨RX5, TX5, 38, _, tyX5, rfl, in_X5, rfl, rfl, Nat.le_of_ble_eq_true rfl, Or.inl q1664, tyX5_ok, nmX5, rfl, rfl⟩
theorem fl_X5_141 : mm_FL RX5 141 5 36 (mm_a 23 0 10) (tyX5 36) true := ⟨RX5, TX5, 38, _, tyX5, rfl, in_X5, rfl, rfl, Nat.le_of_ble_eq_true rfl, Or.inl q1699, tyX5_ok, nmX5, rfl, rfl⟩
theorem fl_X5_155 : mm_FL RX5 155 5 3 mm_i .int false := ⟨RX5, TX5, 38, _, tyX5, rfl, in_X5, rfl, rfl, Nat.le_of_ble_eq_true rfl, Or.inl q1666, tyX5_ok, nmX5, rfl, rfl⟩
theorem fl_X5_174 : mm_FL RX5 174 5 7 mm_i .int false := ⟨RX5, TX5, 38, _, tyX5, rfl, in_X5, rfl, rfl, Nat.le_of_ble_eq_true rfl, Or.inl q1670, tyX5_ok, nmX5, rfl, rfl⟩
theorem fl_X5_177 : mm_FL RX5 177 5 8 mm_i .int false := ⟨RX5, TX5, 38, _, tyX5, rfl, in_X5, rfl, rfl, Nat.le_of_ble_eq_true rfl, Or.inl q1671, tyX5_ok, nmX5, rfl, rfl⟩
theorem fl_X5_202 : mm_FL RX5 202 5 17 mm_i .int false := ⟨RX5, TX5, 38, _, tyX5, rfl, in_X5, rfl, rfl, Nat.le_of_ble_eq_true rfl, Or.inl q1680, tyX5_ok, nmX5, rfl, rfl⟩
theorem fl_X5_205 : mm_FL RX5 205 5 16 mm_i .int false := ⟨RX5, TX5, 38, _, tyX5, rfl, in_X5, rfl, rfl, Nat.le_of_ble_eq_true rfl, Or.inl q1679, tyX5_ok, nmX5, rfl, rfl⟩
theorem fl_X5_222 : mm_FL RX5 222 5 13 mm_i .int false := ⟨RX5, TX5, 38, _, tyX5, rfl, in_X5, rfl, rfl, Nat.le_of_ble_eq_true rfl, Or.inl q1676, tyX5_ok, nmX5, rfl, rfl⟩
theorem fl_X5_225 : mm_FL RX5 225 5 18 mm_i .int false := ⟨RX5, TX5, 38, _, tyX5, rfl, in_X5, rfl, rfl, Nat.le_of_ble_eq_true rfl, Or.inl q1681, tyX5_ok, nmX5, rfl, rfl⟩
theorem fl_X5_24 : mm_FL RX5 24 5 4 (mm_a 2 0 1002) (tyX5 4) true := ⟨RX5, TX5, 38, _, tyX5, rfl, in_X5, rfl, rfl, Nat.le_of_ble_eq_true rfl, Or.inl q1667, tyX5_ok, nmX5, rfl, rfl⟩
theorem fl_X5_27 : mm_FL RX5 27 5 5 (mm_a 3 0 1002) (tyX5 5) true := ⟨RX5, TX5, 38, _, tyX5, rfl, in_X5, rfl, rfl, Nat.le_of_ble_eq_true rfl, Or.inl q1668, tyX5_ok, nmX5, rfl, rfl⟩
theorem fl_X5_285 : mm_FL RX5 285 5 23 mm_i .int false := ⟨RX5, TX5, 38, _, tyX5, rfl, in_X5, rfl, rfl, Nat.le_of_ble_eq_true rfl, Or.inl q1686, tyX5_ok, nmX5, rfl, rfl⟩
theorem fl_X5_30 : mm_FL RX5 30 5 6 (mm_a 4 2 1002) (tyX5 6) true := ⟨RX5, TX5, 38, _, tyX5, rfl, in_X5, rfl, rfl, Nat.le_of_ble_eq_true rfl, Or.inl q1669, tyX5_ok, nmX5, rfl, rfl⟩
theorem fl_X5_391 : mm_FL RX5 391 5 28 mm_i .int false := ⟨RX5, TX5, 38, _, tyX5, rfl, in_X5, rfl, rfl, Nat.le_of_ble_eq_true rfl, Or.inl q1691, tyX5_ok, nmX5, rfl, rfl⟩
theorem fl_X5_394 : mm_FL RX5 394 5 29 mm_i .int false := ⟨RX5, TX5, 38, _, tyX5, rfl, in_X5, rfl, rfl, Nat.le_of_ble_eq_true rfl, Or.inl q1692, tyX5_ok, nmX5, rfl, rfl⟩
theorem fl_X5_410 : mm_FL RX5 410 5 35 mm_i .int false := ⟨RX5, TX5, 38, _, tyX5, rfl, in_X5, rfl, rfl, Nat.le_of_ble_eq_true rfl, Or.inl q1698, tyX5_ok, nmX5, rfl, rfl⟩
theorem fl_X5_413 : mm_FL RX5 413 5 34 mm_i .int false := ⟨RX5, TX5, 38, _, tyX5, rfl, in_X5, rfl, rfl, Nat.le_of_ble_eq_true rfl, Or.inl q1697, tyX5_ok, nmX5, rfl, rfl⟩
theorem fl_X5_431 : mm_FL RX5 431 5 37 mm_j .long false := ⟨RX5, TX5, 38, _, tyX5, rfl, in_X5, rfl, rfl, Nat.le_of_ble_eq_true rfl, Or.inl q1700, tyX5_ok, nmX5, rfl, rfl⟩
theorem fl_X5_86 : mm_FL RX5 86 5 9 (mm_a 5 2 26) (tyX5 9) true := ⟨RX5, TX5, 38, _, tyX5, rfl, in_X5, rfl, rfl, Nat.le_of_ble_eq_true rfl, Or.inl q1672, tyX5_ok, nmX5, rfl, rfl⟩
theorem fl_X5_89 : mm_FL RX5 89 5 10 (mm_a 6 0 200) (tyX5 10) true := ⟨RX5, TX5, 38, _, tyX5, rfl, in_X5, rfl, rfl, Nat.le_of_ble_eq_true rfl, Or.inl q1673, tyX5_ok, nmX5, rfl, rfl⟩
theorem fl_X5_92 : mm_FL RX5 92 5 11 (mm_a 7 0 2200) (tyX5 11) true := ⟨RX5, TX5, 38, _, tyX5, rfl, in_X5, rfl, rfl, Nat.le_of_ble_eq_true rfl, Or.inl q1674, tyX5_ok, nmX5, rfl, rfl⟩
theorem fl_X5_95 : mm_FL RX5 95 5 12 (mm_a 8 0 2200) (tyX5 12) true := ⟨RX5, TX5, 38, _, tyX5, rfl, in_X5, rfl, rfl, Nat.le_of_ble_eq_true rfl, Or.inl q1675, tyX5_ok, nmX5, rfl, rfl⟩
theorem fl_X5_98 : mm_FL RX5 98 5 14 (mm_a 9 2 6) (tyX5 14) true := ⟨RX5, TX5, 38, _, tyX5, rfl, in_X5, rfl, rfl, Nat.le_of_ble_eq_true rfl, Or.inl q1677, tyX5_ok, nmX5, rfl, rfl⟩
theorem cv_X5_144 : mm_CV RX5 144 yX5_standsAsAlways cX5_standsAsAlways 3 none 1 5 := ⟨RX5, TX5, 38, _, lw_V q1651 q1653 qs59 q140 q1654, ⟨rfl, by decide +kernel, by decide +kernel, by decide +kernel⟩, rfl, rfl⟩
theorem cv_X5_148 : mm_CV RX5 148 yX5_begins cX5_begins 2 none 0 5 := ⟨RX5, TX5, 38, _, lw_V q1655 q1657 qs60 q140 q1658, ⟨rfl, by decide +kernel, by decide +kernel, by decide +kernel⟩, rfl, rfl⟩
theorem cv_X5_151 : mm_CS RX5 151 yX5_isLetter cX5_isLetter 1 (some .boolean) 1 := ⟨lw_S q1788 q1789 q140 q1790, by decide +kernel, by decide +kernel, by decide +kernel⟩
theorem cv_X5_160 : mm_CS RX5 160 yX5_rank cX5_rank 1 (some .int) 1 := ⟨lw_S q1792 q1793 q140 q1794, by decide +kernel, by decide +kernel, by decide +kernel⟩
theorem cv_X5_164 : mm_CS RX5 164 yX5_isDigit cX5_isDigit 1 (some .boolean) 1 := ⟨lw_S q1795 q1796 q140 q1797, by decide +kernel, by decide +kernel, by decide +kernel⟩
theorem cv_X5_171 : mm_CS RX5 171 yX5_isSignOf cX5_isSignOf 1 (some .boolean) 1 := ⟨lw_S q1800 q1801 q140 q1802, by decide +kernel, by decide +kernel, by decide +kernel⟩
theorem cv_X5_180 : mm_CV RX5 180 yX5_isSign cX5_isSign 2 (some .boolean) 1 5 := ⟨RX5, TX5, 38, _, lw_V q1887 q1889 qs84 q140 q1890, ⟨rfl, by decide +kernel, by decide +kernel, by decide +kernel⟩, rfl, rfl⟩
theorem cv_X5_183 : mm_CV RX5 183 yX5_wrong cX5_wrong 2 none 1 5 := ⟨RX5, TX5, 38, _, lw_V q1811 q1813 qs65 q140 q1814, ⟨rfl, by decide +kernel, by decide +kernel, by decide +kernel⟩, rfl, rfl⟩
theorem cv_X5_186 : mm_CV RX5 186 yX5_isWord cX5_isWord 2 (some .boolean) 1 5 := ⟨RX5, TX5, 38, _, lw_V q1803 q1805 qs63 q140 q1806, ⟨rfl, by decide +kernel, by decide +kernel, by decide +kernel⟩, rfl, rfl⟩
theorem cv_X5_189 : mm_CV RX5 189 yX5_hasWord cX5_hasWord 3 (some .boolean) 1 5 := ⟨RX5, TX5, 38, _, lw_V q1839 q1841 qs72 q140 q1842, ⟨rfl, by decide +kernel, by decide +kernel, by decide +kernel⟩, rfl, rfl⟩
theorem cv_X5_192 : mm_CV RX5 192 yX5_takeWord cX5_takeWord 2 none 1 5 := ⟨RX5, TX5, 38, _, lw_V q1835 q1837 qs71 q140 q1838, ⟨rfl, by decide +kernel, by decide +kernel, by decide +kernel⟩, rfl, rfl⟩
theorem cv_X5_195 : mm_CV RX5 195 yX5_takeNumber cX5_takeNumber 3 (some .int) 2 5 := ⟨RX5, TX5, 38, _, lw_V q1843 q1845 qs73 q140 q1846, ⟨rfl, by decide +kernel, by decide +kernel, by decide +kernel⟩, rfl, rfl⟩
theorem cv_X5_199 : mm_CV RX5 199 yX5_wordHere cX5_wordHere 5 (some .int) 2 5 := ⟨RX5, TX5, 38, _, lw_V q1819 q1821 qs67 q140 q1822, ⟨rfl, by decide +kernel, by decide +kernel, by decide +kernel⟩, rfl, rfl⟩
theorem cv_X5_208 : mm_CV RX5 208 yX5_isName cX5_isName 1 (some .boolean) 0 5 := ⟨RX5, TX5, 38, _, lw_V q1815 q1817 qs66 q140 q1818, ⟨rfl, by decide +kernel, by decide +kernel, by decide +kernel⟩, rfl, rfl⟩
theorem cv_X5_212 : mm_CV RX5 212 yX5_find cX5_find 4 (some .int) 1 5 := ⟨RX5, TX5, 38, _, lw_V q1823 q1825 qs68 q140 q1826, ⟨rfl, by decide +kernel, by decide +kernel, by decide +kernel⟩, rfl, rfl⟩
theorem cv_X5_216 : mm_CV RX5 216 yX5_toldHere cX5_toldHere 3 (some .int) 1 5 := ⟨RX5, TX5, 38, _, lw_V q1855 q1857 qs76 q140 q1858, ⟨rfl, by decide +kernel, by decide +kernel, by decide +kernel⟩, rfl, rfl⟩
theorem cv_X5_219 : mm_CV RX5 219 yX5_cutAll cX5_cutAll 7 none 0 5 := ⟨RX5, TX5, 38, _, lw_V q1784 q1786 qs62 q140 q1787, ⟨rfl, by decide +kernel, by decide +kernel, by decide +kernel⟩, rfl, rfl⟩
theorem cv_X5_228 : mm_CV RX5 228 yX5_readCloth cX5_readCloth 3 none 0 5 := ⟨RX5, TX5, 38, _, lw_V q1807 q1809 qs64 q140 q1810, ⟨rfl, by decide +kernel, by decide +kernel, by decide +kernel⟩, rfl, rfl⟩
theorem cv_X5_231 : mm_CV RX5 231 yX5_readClash cX5_readClash 3 none 0 5 := ⟨RX5, TX5, 38, _, lw_V q1847 q1849 qs74 q140 q1850, ⟨rfl, by decide +kernel, by decide +kernel, by decide +kernel⟩, rfl, rfl⟩
theorem cv_X5_234 : mm_CV RX5 234 yX5_readOnce cX5_readOnce 2 none 0 5 := ⟨RX5, TX5, 38, _, lw_V q1859 q1861 qs77 q140 q1862, ⟨rfl, by decide +kernel, by decide +kernel, by decide +kernel⟩, rfl, rfl⟩
theorem cv_X5_237 : mm_CV RX5 237 yX5_takeSign cX5_takeSign 2 none 1 5 := ⟨RX5, TX5, 38, _, lw_V q1899 q1901 qs87 q140 q1902, ⟨rfl, by decide +kernel, by decide +kernel, by decide +kernel⟩, rfl, rfl⟩
theorem cv_X5_240 : mm_CV RX5 240 yX5_takeOne cX5_takeOne 4 (some .int) 2 5 := ⟨RX5, TX5, 38, _, lw_V q1827 q1829 qs69 q140 q1830, ⟨rfl, by decide +kernel, by decide +kernel, by decide +kernel⟩, rfl, rfl⟩
theorem cv_X5_243 : mm_CV RX5 243 yX5_takeAfter cX5_takeAfter 4 (some .int) 3 5 := ⟨RX5, TX5, 38, _, lw_V q1831 q1833 qs70 q140 q1834, ⟨rfl, by decide +kernel, by decide +kernel, by decide +kernel⟩, rfl, rfl⟩
theorem cv_X5_247 : mm_CV RX5 247 yX5_takeTold cX5_takeTold 3 (some .int) 1 5 := ⟨RX5, TX5, 38, _, lw_V q1851 q1853 qs75 q140 q1854, ⟨rfl, by decide +kernel, by decide +kernel, by decide +kernel⟩, rfl, rfl⟩
theorem cv_X5_250 : mm_CV RX5 250 yX5_readRow cX5_readRow 6 (some .int) 3 5 := ⟨RX5, TX5, 38, _, lw_V q1863 q1865 qs78 q140 q1866, ⟨rfl, by decide +kernel, by decide +kernel, by decide +kernel⟩, rfl, rfl⟩
theorem cv_X5_253 : mm_CV RX5 253 yX5_all cX5_all 3 none 1 5 := ⟨RX5, TX5, 38, _, lw_V q1867 q1869 qs79 q140 q1870, ⟨rfl, by decide +kernel, by decide +kernel, by decide +kernel⟩, rfl, rfl⟩
theorem cv_X5_256 : mm_CV RX5 256 yX5_emit cX5_emit 3 none 2 5 := ⟨RX5, TX5, 38, _, lw_V q1891 q1893 qs85 q140 q1894, ⟨rfl, by decide +kernel, by decide +kernel, by decide +kernel⟩, rfl, rfl⟩
theorem cv_X5_260 : mm_CV RX5 260 yX5_readPegs cX5_readPegs 5 (some .int) 0 5 := ⟨RX5, TX5, 38, _, lw_V q1907 q1909 qs88 q140 q1910, ⟨rfl, by decide +kernel, by decide +kernel, by decide +kernel⟩, rfl, rfl⟩
theorem cv_X5_264 : mm_CV RX5 264 yX5_test cX5_test 3 none 1 5 := ⟨RX5, TX5, 38, _, lw_V q1871 q1873 qs80 q140 q1874, ⟨rfl, by decide +kernel, by decide +kernel, by decide +kernel⟩, rfl, rfl⟩
theorem cv_X5_267 : mm_CV RX5 267 yX5_sums cX5_sums 3 none 1 5 := ⟨RX5, TX5, 38, _, lw_V q1875 q1877 qs81 q140 q1878, ⟨rfl, by decide +kernel, by decide +kernel, by decide +kernel⟩, rfl, rfl⟩
theorem cv_X5_270 : mm_CV RX5 270 yX5_hasSign cX5_hasSign 3 (some .boolean) 1 5 := ⟨RX5, TX5, 38, _, lw_V q1895 q1897 qs86 q140 q1898, ⟨rfl, by decide +kernel, by decide +kernel, by decide +kernel⟩, rfl, rfl⟩
theorem cv_X5_273 : mm_CV RX5 273 yX5_products cX5_products 2 none 1 5 := ⟨RX5, TX5, 38, _, lw_V q1879 q1881 qs82 q140 q1882, ⟨rfl, by decide +kernel, by decide +kernel, by decide +kernel⟩, rfl, rfl⟩
theorem cv_X5_276 : mm_CV RX5 276 yX5_takePart cX5_takePart 4 none 1 5 := ⟨RX5, TX5, 38, _, lw_V q1883 q1885 qs83 q140 q1886, ⟨rfl, by decide +kernel, by decide +kernel, by decide +kernel⟩, rfl, rfl⟩
theorem cv_X5_279 : mm_CS RX5 279 yX5_both cX5_both 3 (some .int) 3 := ⟨lw_S q1969 q1970 q140 q1971, by decide +kernel, by decide +kernel, by decide +kernel⟩
theorem cv_X5_282 : mm_CV RX5 282 yX5_starts cX5_starts 3 none 1 5 := ⟨RX5, TX5, 38, _, lw_V q1659 q1661 qs61 q140 q1662, ⟨rfl, by decide +kernel, by decide +kernel, by decide +kernel⟩, rfl, rfl⟩
theorem cv_X5_288 : mm_CV RX5 288 yX5_copies cX5_copies 5 none 3 5 := ⟨RX5, TX5, 38, _, lw_V q2012 q2014 qs107 q140 q2015, ⟨rfl, by decide +kernel, by decide +kernel, by decide +kernel⟩, rfl, rfl⟩
theorem cv_X5_292 : mm_CV RX5 292 yX5_cloths cX5_cloths 1 (some .int) 0 5 := ⟨RX5, TX5, 38, _, lw_V q1919 q1921 qs90 q140 q1922, ⟨rfl, by decide +kernel, by decide +kernel, by decide +kernel⟩, rfl, rfl⟩
theorem cv_X5_295 : mm_CV RX5 295 yX5_clothOf cX5_clothOf 3 (some .int) 2 5 := ⟨RX5, TX5, 38, _, lw_V q1926 q1928 qs91 q140 q1929, ⟨rfl, by decide +kernel, by decide +kernel, by decide +kernel⟩, rfl, rfl⟩
theorem cv_X5_298 : mm_CS RX5 298 yX5_bits cX5_bits 3 (some .int) 1 := ⟨lw_S q1934 q1935 q140 q1936, by decide +kernel, by decide +kernel, by decide +kernel⟩
theorem cv_X5_301 : mm_CV RX5 301 yX5_needs cX5_needs 2 (some .int) 1 5 := ⟨RX5, TX5, 38, _, lw_V q1937 q1939 qs93 q140 q1940, ⟨rfl, by decide +kernel, by decide +kernel, by decide +kernel⟩, rfl, rfl⟩
theorem cv_X5_304 : mm_CV RX5 304 yX5_isHung cX5_isHung 3 (some .boolean) 2 5 := ⟨RX5, TX5, 38, _, lw_V q1945 q1947 qs95 q140 q1948, ⟨rfl, by decide +kernel, by decide +kernel, by decide +kernel⟩, rfl, rfl⟩
theorem cv_X5_308 : mm_CV RX5 308 yX5_roomBy cX5_roomBy 3 (some .int) 2 5 := ⟨RX5, TX5, 38, _, lw_V q1949 q1951 qs96 q140 q1952, ⟨rfl, by decide +kernel, by decide +kernel, by decide +kernel⟩, rfl, rfl⟩
theorem cv_X5_311 : mm_CV RX5 311 yX5_laysFacts cX5_laysFacts 4 none 3 5 := ⟨RX5, TX5, 38, _, lw_V q1961 q1963 qs99 q140 q1964, ⟨rfl, by decide +kernel, by decide +kernel, by decide +kernel⟩, rfl, rfl⟩
theorem cv_X5_314 : mm_CV RX5 314 yX5_worthAt cX5_worthAt 5 (some .int) 1 5 := ⟨RX5, TX5, 38, _, lw_V q1965 q1967 qs100 q140 q1968, ⟨rfl, by decide +kernel, by decide +kernel, by decide +kernel⟩, rfl, rfl⟩
theorem cv_X5_317 : mm_CV RX5 317 yX5_pullOf cX5_pullOf 5 (some .int) 3 5 := ⟨RX5, TX5, 38, _, lw_V q1957 q1959 qs98 q140 q1960, ⟨rfl, by decide +kernel, by decide +kernel, by decide +kernel⟩, rfl, rfl⟩
theorem cv_X5_320 : mm_CV RX5 320 yX5_gripsOf cX5_gripsOf 5 (some .int) 2 5 := ⟨RX5, TX5, 38, _, lw_V q2048 q2050 qs112 q140 q2051, ⟨rfl, by decide +kernel, by decide +kernel, by decide +kernel⟩, rfl, rfl⟩
theorem cv_X5_323 : mm_CV RX5 323 yX5_loosens cX5_loosens 4 none 2 5 := ⟨RX5, TX5, 38, _, lw_V q2052 q2054 qs113 q140 q2055, ⟨rfl, by decide +kernel, by decide +kernel, by decide +kernel⟩, rfl, rfl⟩
theorem cv_X5_326 : mm_CV RX5 326 yX5_held cX5_held 5 (some .int) 2 5 := ⟨RX5, TX5, 38, _, lw_V q2056 q2058 qs114 q140 q2059, ⟨rfl, by decide +kernel, by decide +kernel, by decide +kernel⟩, rfl, rfl⟩
theorem cv_X5_329 : mm_CV RX5 329 yX5_falls cX5_falls 3 none 2 5 := ⟨RX5, TX5, 38, _, lw_V q2060 q2062 qs115 q140 q2063, ⟨rfl, by decide +kernel, by decide +kernel, by decide +kernel⟩, rfl, rfl⟩
theorem cv_X5_332 : mm_CV RX5 332 yX5_windOf cX5_windOf 3 (some .int) 2 5 := ⟨RX5, TX5, 38, _, lw_V q1953 q1955 qs97 q140 q1956, ⟨rfl, by decide +kernel, by decide +kernel, by decide +kernel⟩, rfl, rfl⟩
theorem cv_X5_336 : mm_CV RX5 336 yX5_pulls cX5_pulls 7 (some .boolean) 3 5 := ⟨RX5, TX5, 38, _, lw_V q2044 q2046 qs111 q140 q2047, ⟨rfl, by decide +kernel, by decide +kernel, by decide +kernel⟩, rfl, rfl⟩
theorem cv_X5_340 : mm_CV RX5 340 yX5_driedOf cX5_driedOf 5 (some .int) 3 5 := ⟨RX5, TX5, 38, _, lw_V q2064 q2066 qs116 q140 q2067, ⟨rfl, by decide +kernel, by decide +kernel, by decide +kernel⟩, rfl, rfl⟩
theorem cv_X5_343 : mm_CV RX5 343 yX5_isLaw cX5_isLaw 3 (some .boolean) 2 5 := ⟨RX5, TX5, 38, _, lw_V q1930 q1932 qs92 q140 q1933, ⟨rfl, by decide +kernel, by decide +kernel, by decide +kernel⟩, rfl, rfl⟩
theorem cv_X5_346 : mm_CV RX5 346 yX5_isCloth cX5_isCloth 2 (some .boolean) 1 5 := ⟨RX5, TX5, 38, _, lw_V q1915 q1917 qs89 q140 q1918, ⟨rfl, by decide +kernel, by decide +kernel, by decide +kernel⟩, rfl, rfl⟩
theorem cv_X5_349 : mm_CS RX5 349 yX5_within cX5_within 3 (some .boolean) 3 := ⟨lw_S q1923 q1924 q140 q1925, by decide +kernel, by decide +kernel, by decide +kernel⟩
theorem cv_X5_352 : mm_CV RX5 352 yX5_isTurned cX5_isTurned 3 (some .boolean) 2 5 := ⟨RX5, TX5, 38, _, lw_V q1941 q1943 qs94 q140 q1944, ⟨rfl, by decide +kernel, by decide +kernel, by decide +kernel⟩, rfl, rfl⟩
theorem cv_X5_355 : mm_CV RX5 355 yX5_heldBy cX5_heldBy 5 (some .int) 2 5 := ⟨RX5, TX5, 38, _, lw_V q1976 q1978 qs101 q140 q1979, ⟨rfl, by decide +kernel, by decide +kernel, by decide +kernel⟩, rfl, rfl⟩
theorem cv_X5_358 : mm_CV RX5 358 yX5_lawsOf cX5_lawsOf 4 (some .int) 1 5 := ⟨RX5, TX5, 38, _, lw_V q1984 q1986 qs102 q140 q1987, ⟨rfl, by decide +kernel, by decide +kernel, by decide +kernel⟩, rfl, rfl⟩
theorem cv_X5_361 : mm_CV RX5 361 yX5_freePegs cX5_freePegs 4 (some .int) 1 5 := ⟨RX5, TX5, 38, _, lw_V q1992 q1994 qs103 q140 q1995, ⟨rfl, by decide +kernel, by decide +kernel, by decide +kernel⟩, rfl, rfl⟩
theorem cv_X5_364 : mm_CV RX5 364 yX5_roomLeft cX5_roomLeft 4 (some .int) 1 5 := ⟨RX5, TX5, 38, _, lw_V q2004 q2006 qs105 q140 q2007, ⟨rfl, by decide +kernel, by decide +kernel, by decide +kernel⟩, rfl, rfl⟩
theorem cv_X5_367 : mm_CV RX5 367 yX5_mayHang cX5_mayHang 6 (some .boolean) 3 5 := ⟨RX5, TX5, 38, _, lw_V q2000 q2002 qs104 q140 q2003, ⟨rfl, by decide +kernel, by decide +kernel, by decide +kernel⟩, rfl, rfl⟩
theorem cv_X5_370 : mm_CV RX5 370 yX5_keeps cX5_keeps 2 none 0 5 := ⟨RX5, TX5, 38, _, lw_V q2008 q2010 qs106 q140 q2011, ⟨rfl, by decide +kernel, by decide +kernel, by decide +kernel⟩, rfl, rfl⟩
theorem cv_X5_373 : mm_CV RX5 373 yX5_washes cX5_washes 4 (some .int) 2 5 := ⟨RX5, TX5, 38, _, lw_V q2024 q2026 qs108 q140 q2027, ⟨rfl, by decide +kernel, by decide +kernel, by decide +kernel⟩, rfl, rfl⟩
theorem cv_X5_376 : mm_CV RX5 376 yX5_buys cX5_buys 4 (some .int) 2 5 := ⟨RX5, TX5, 38, _, lw_V q2032 q2034 qs109 q140 q2035, ⟨rfl, by decide +kernel, by decide +kernel, by decide +kernel⟩, rfl, rfl⟩
theorem cv_X5_379 : mm_CV RX5 379 yX5_passes cX5_passes 6 (some .int) 2 5 := ⟨RX5, TX5, 38, _, lw_V q2040 q2042 qs110 q140 q2043, ⟨rfl, by decide +kernel, by decide +kernel, by decide +kernel⟩, rfl, rfl⟩
theorem cv_X5_382 : mm_CV RX5 382 yX5_does cX5_does 5 (some .boolean) 3 5 := ⟨RX5, TX5, 38, _, lw_V q2076 q2078 qs117 q140 q2079, ⟨rfl, by decide +kernel, by decide +kernel, by decide +kernel⟩, rfl, rfl⟩
theorem cv_X5_385 : mm_CV RX5 385 yX5_worthOf cX5_worthOf 4 (some .int) 1 5 := ⟨RX5, TX5, 38, _, lw_V q2080 q2082 qs118 q140 q2083, ⟨rfl, by decide +kernel, by decide +kernel, by decide +kernel⟩, rfl, rfl⟩
theorem cv_X5_388 : mm_CV RX5 388 yX5_clashesIn cX5_clashesIn 5 (some .int) 1 5 := ⟨RX5, TX5, 38, _, lw_V q2092 q2094 qs119 q140 q2095, ⟨rfl, by decide +kernel, by decide +kernel, by decide +kernel⟩, rfl, rfl⟩
theorem cv_X5_397 : mm_CV RX5 397 yX5_fills cX5_fills 7 none 4 5 := ⟨RX5, TX5, 38, _, lw_V q2108 q2110 qs121 q140 q2111, ⟨rfl, by decide +kernel, by decide +kernel, by decide +kernel⟩, rfl, rfl⟩
theorem cv_X5_401 : mm_CV RX5 401 yX5_findHardest cX5_findHardest 7 none 1 5 := ⟨RX5, TX5, 38, _, lw_V q2104 q2106 qs120 q140 q2107, ⟨rfl, by decide +kernel, by decide +kernel, by decide +kernel⟩, rfl, rfl⟩
theorem cv_X5_404 : mm_CV RX5 404 yX5_hanging cX5_hanging 15 (some .long) 5 5 := ⟨RX5, TX5, 38, _, lw_V q2116 q2118 qs122 q140 q2119, ⟨rfl, by decide +kernel, by decide +kernel, by decide +kernel⟩, rfl, rfl⟩
theorem cv_X5_416 : mm_CV RX5 416 yX5_washesFrom cX5_washesFrom 6 none 3 5 := ⟨RX5, TX5, 38, _, lw_V q2129 q2131 qs124 q140 q2132, ⟨rfl, by decide +kernel, by decide +kernel, by decide +kernel⟩, rfl, rfl⟩
theorem cv_X5_419 : mm_CV RX5 419 yX5_driedBehind cX5_driedBehind 5 (some .int) 2 5 := ⟨RX5, TX5, 38, _, lw_V q2125 q2127 qs123 q140 q2128, ⟨rfl, by decide +kernel, by decide +kernel, by decide +kernel⟩, rfl, rfl⟩
theorem cv_X5_422 : mm_CV RX5 422 yX5_wetBehind cX5_wetBehind 6 (some .int) 3 5 := ⟨RX5, TX5, 38, _, lw_V q2145 q2147 qs126 q140 q2148, ⟨rfl, by decide +kernel, by decide +kernel, by decide +kernel⟩, rfl, rfl⟩
theorem cv_X5_425 : mm_CV RX5 425 yX5_startsNow cX5_startsNow 6 (some .int) 0 5 := ⟨RX5, TX5, 38, _, lw_V q2141 q2143 qs125 q140 q2144, ⟨rfl, by decide +kernel, by decide +kernel, by decide +kernel⟩, rfl, rfl⟩
theorem cv_X5_428 : mm_CV RX5 428 yX5_worthBehind cX5_worthBehind 4 (some .int) 2 5 := ⟨RX5, TX5, 38, _, lw_V q2157 q2159 qs127 q140 q2160, ⟨rfl, by decide +kernel, by decide +kernel, by decide +kernel⟩, rfl, rfl⟩
theorem cv_X5_443 : mm_CV RX5 443 yX5_draw cX5_draw 2 (some .int) 1 5 := ⟨RX5, TX5, 38, _, lw_V q2173 q2175 qs129 q140 q2176, ⟨rfl, by decide +kernel, by decide +kernel, by decide +kernel⟩, rfl, rfl⟩
theorem cv_X5_446 : mm_CV RX5 446 yX5_firstFree cX5_firstFree 8 (some .int) 2 5 := ⟨RX5, TX5, 38, _, lw_V q2181 q2183 qs130 q140 q2184, ⟨rfl, by decide +kernel, by decide +kernel, by decide +kernel⟩, rfl, rfl⟩
theorem cv_X5_449 : mm_CV RX5 449 yX5_drawsCloth cX5_drawsCloth 3 none 0 5 := ⟨RX5, TX5, 38, _, lw_V q2169 q2171 qs128 q140 q2172, ⟨rfl, by decide +kernel, by decide +kernel, by decide +kernel⟩, rfl, rfl⟩
theorem cv_X5_452 : mm_CV RX5 452 yX5_turnedSet cX5_turnedSet 3 (some .int) 0 5 := ⟨RX5, TX5, 38, _, lw_V q2193 q2195 qs131 q140 q2196, ⟨rfl, by decide +kernel, by decide +kernel, by decide +kernel⟩, rfl, rfl⟩
theorem cv_X5_7 : mm_CV RX5 7 yX5_lay cX5_lay 5 none 1 5 := ⟨RX5, TX5, 38, _, lw_V q1615 q1617 qs58 q140 q1619, ⟨rfl, by decide +kernel, by decide +kernel, by decide +kernel⟩, rfl, rfl⟩
/-! thrown -/
def fX5_thrown (th : Nat) (P : mm_P)  : Option Int32 :=
  some (gI P 640 th)
set_option maxHeartbeats 4000000 in
theorem mc_X5_thrown {l : Launch} {K : mm_K} {P : mm_P} {th : Nat}  {nx sl : Nat} {r : Int32} (hk : K.1 th = 5) (h : fX5_thrown th P = some r) : mm_C l yX5_thrown (ws_ yX5_thrown cX5_thrown 1 (some .int)) 0 0 [.ref th] K P nx sl (mm_wrI K P nx sl r) :=
  mm_start (ls := [some (.ref th)]) h (by decide) (Nat.le_of_ble_eq_true rfl) rfl (Nat.le_refl _) (Nat.le_refl _) rfl fun E hl9 _ _ _ C => by
  have C : mm_Cx E RX5 cX5_thrown 1 (some .int) 0 0 := C
  unfold fX5_thrown
  refine r_aload_n C dX5_thrown_0 rfl rfl ?_
  refine r_getI (code := 640) C fl_X5_1 hk rfl dX5_thrown_1 ?_
  exact r_iret C dX5_thrown_4 rfl
/-! lay -/
def fX5_lay_b38 (th : Nat) (k3 : Int64 → Int32 → mm_P → Option mm_P) (x1 : Int64) (x3 : Int32) (x4 : Int32) (P : mm_P) : Option mm_P :=
  if (1000 : Int32) ≤ (gI P 642 th) then
  (k3 x1 (x3 + (-8 : Int32)) P)
  else
  (mm_gd (mm_in (gI P 642 th) 1000) <|
  mm_lt (sA P 641 th (gI P 642 th).toNatClampNeg x4) fun P3 =>
  mm_lt (sI P3 642 th ((gI P3 642 th) + (1 : Int32))) fun P4 =>
  k3 x1 (x3 + (-8 : Int32)) P4)
set_option maxHeartbeats 4000000 in
theorem wfX5_lay_b38 {E : mm_E} (C : mm_Cx E RX5 cX5_lay 5 none 0 0) {K : mm_K} {th : Nat} (hk : K.1 th = 5) {nx sl : Nat} {k3 : Int64 → Int32 → mm_P → Option mm_P} (hk3 : ∀ (x1 : Int64) (x3 : Int32) (P : mm_P), mm_V E (mm_wwV K nx sl) 3 [some (.ref th), some (.long x1), none, some (.int x3), none] [] K P nx sl (k3 x1 x3 P)) (x1 : Int64) (x3 : Int32) (x4 : Int32) (P : mm_P) : mm_V E (mm_wwV K nx sl) 38 [some (.ref th), some (.long x1), none, some (.int x3), some (.int x4)] [] K P nx sl (fX5_lay_b38 th k3 x1 x3 x4 P) := by
  unfold fX5_lay_b38
  refine r_aload_n C dX5_lay_38 rfl rfl ?_
  refine r_getI (code := 642) C fl_X5_11 hk rfl dX5_lay_39 ?_
  refine r_sipush (v := 1000) C dX5_lay_42 rfl ?_
  refine r_icmpge (tgt := 69) C dX5_lay_45 (by decide) (fun h1 => ?_) (fun h1 => ?_)
  · refine r_iinc (v := -8) (ls' := [some (.ref th), some (.long x1), none, some (.int (x3 + (-8 : Int32))), some (.int x4)]) C dX5_lay_69 rfl rfl (Nat.le_of_ble_eq_true rfl) rfl rfl ?_
    refine r_goto (tgt := 3) C dX5_lay_72 (by decide) ?_
    refine r_mask [true, true, true, true, false] (ls' := [some (.ref th), some (.long x1), none, some (.int (x3 + (-8 : Int32))), none]) rfl ?_
    exact hk3 x1 (x3 + (-8 : Int32)) P
  · refine r_aload_n C dX5_lay_48 rfl rfl ?_
    refine r_getA C fl_X5_14 hk dX5_lay_49 ?_
    refine r_aload_n C dX5_lay_52 rfl rfl ?_
    refine r_getI (code := 642) C fl_X5_11 hk rfl dX5_lay_53 ?_
    refine r_iload C dX5_lay_56 rfl ?_
    refine r_iast C (rg_641 hk) (mm_ro_of (k := 5) hk rfl) rfl dX5_lay_58 fun h2 => ?_
    refine r_ltP fun P3 => ?_
    refine r_aload_n C dX5_lay_59 rfl rfl ?_
    refine r_dup C dX5_lay_60 rfl ?_
    refine r_getI (code := 642) C fl_X5_11 hk rfl dX5_lay_61 ?_
    refine r_iconst (v := 1) C dX5_lay_64 rfl ?_
    refine r_iadd C dX5_lay_65 ?_
    refine r_putI (code := 642) C fl_X5_11 hk rfl rfl dX5_lay_66 ?_
    refine r_ltP fun P4 => ?_
    refine r_iinc (v := -8) (ls' := [some (.ref th), some (.long x1), none, some (.int (x3 + (-8 : Int32))), some (.int x4)]) C dX5_lay_69 rfl rfl (Nat.le_of_ble_eq_true rfl) rfl rfl ?_
    refine r_goto (tgt := 3) C dX5_lay_72 (by decide) ?_
    refine r_mask [true, true, true, true, false] (ls' := [some (.ref th), some (.long x1), none, some (.int (x3 + (-8 : Int32))), none]) rfl ?_
    exact hk3 x1 (x3 + (-8 : Int32)) P4
def fX5_lay_b3 (th : Nat)  : Nat → Int64 → Int32 → mm_P → Option mm_P
  | 0, _, _, _ => none
  | n + 1, x1, x3, P =>
  if x3 < 0 then
  (some P)
  else
  (mm_lt (((mm_shrL x1 x3).toInt32) &&& (255 : Int32)) fun v2 =>
  if v2 = (10 : Int32) then
  (fX5_lay_b38 th (fX5_lay_b3 th n) x1 x3 v2 P)
  else
  (if v2 < (32 : Int32) then
  (fX5_lay_b3 th n x1 (x3 + (-8 : Int32)) P)
  else
  (if (126 : Int32) < v2 then
  (fX5_lay_b3 th n x1 (x3 + (-8 : Int32)) P)
  else
  (fX5_lay_b38 th (fX5_lay_b3 th n) x1 x3 v2 P))))
set_option maxHeartbeats 4000000 in
theorem wfX5_lay_b3 {E : mm_E} (C : mm_Cx E RX5 cX5_lay 5 none 0 0) {K : mm_K} {th : Nat} (hk : K.1 th = 5) {nx sl : Nat} : ∀ (n : Nat), ∀ (x1 : Int64) (x3 : Int32) (P : mm_P), mm_V E (mm_wwV K nx sl) 3 [some (.ref th), some (.long x1), none, some (.int x3), none] [] K P nx sl (fX5_lay_b3 th n x1 x3 P) := by
  intro n
  induction n with
  | zero => intro x1 x3 P; exact r_none
  | succ n ih =>
    intro x1 x3 P
    rw [fX5_lay_b3]
    refine r_iload_n C dX5_lay_3 rfl rfl ?_
    refine r_iflt (tgt := 75) C dX5_lay_4 (by decide) (fun h1 => ?_) (fun h1 => ?_)
    · exact r_vret C dX5_lay_75 rfl
    · refine r_lload_n C dX5_lay_7 rfl rfl ?_
      refine r_iload_n C dX5_lay_8 rfl rfl ?_
      refine r_lshr C dX5_lay_9 ?_
      refine r_l2i C dX5_lay_10 ?_
      refine r_sipush (v := 255) C dX5_lay_11 rfl ?_
      refine r_iand C dX5_lay_14 ?_
      refine r_ltI fun v2 => ?_
      refine r_istore (ls' := [some (.ref th), some (.long x1), none, some (.int x3), some (.int v2)]) C dX5_lay_15 (Nat.le_of_ble_eq_true rfl) rfl rfl ?_
      refine r_iload C dX5_lay_17 rfl ?_
      refine r_bipush (v := 10) C dX5_lay_19 rfl ?_
      refine r_icmpeq (tgt := 38) C dX5_lay_21 (by decide) (fun h3 => ?_) (fun h3 => ?_)
      · exact wfX5_lay_b38 C hk ih x1 x3 v2 P
      · refine r_iload C dX5_lay_24 rfl ?_
        refine r_bipush (v := 32) C dX5_lay_26 rfl ?_
        refine r_icmplt (tgt := 69) C dX5_lay_28 (by decide) (fun h4 => ?_) (fun h4 => ?_)
        · refine r_iinc (v := -8) (ls' := [some (.ref th), some (.long x1), none, some (.int (x3 + (-8 : Int32))), some (.int v2)]) C dX5_lay_69 rfl rfl (Nat.le_of_ble_eq_true rfl) rfl rfl ?_
          refine r_goto (tgt := 3) C dX5_lay_72 (by decide) ?_
          refine r_mask [true, true, true, true, false] (ls' := [some (.ref th), some (.long x1), none, some (.int (x3 + (-8 : Int32))), none]) rfl ?_
          exact ih x1 (x3 + (-8 : Int32)) P
        · refine r_iload C dX5_lay_31 rfl ?_
          refine r_bipush (v := 126) C dX5_lay_33 rfl ?_
          refine r_icmpgt (tgt := 69) C dX5_lay_35 (by decide) (fun h5 => ?_) (fun h5 => ?_)
          · refine r_iinc (v := -8) (ls' := [some (.ref th), some (.long x1), none, some (.int (x3 + (-8 : Int32))), some (.int v2)]) C dX5_lay_69 rfl rfl (Nat.le_of_ble_eq_true rfl) rfl rfl ?_
            refine r_goto (tgt := 3) C dX5_lay_72 (by decide) ?_
            refine r_mask [true, true, true, true, false] (ls' := [some (.ref th), some (.long x1), none, some (.int (x3 + (-8 : Int32))), none]) rfl ?_
            exact ih x1 (x3 + (-8 : Int32)) P
          · exact wfX5_lay_b38 C hk ih x1 x3 v2 P
def fX5_lay (th : Nat) (x1 : Int64) (P : mm_P) : Option mm_P :=
  fX5_lay_b3 th mm_NF x1 (56 : Int32) P
set_option maxHeartbeats 4000000 in
theorem mc_X5_lay {l : Launch} {K : mm_K} {P : mm_P} {th : Nat} {x1 : Int64} {nx sl : Nat} {r : mm_P} (hk : K.1 th = 5) (h : fX5_lay th x1 P = some r) : mm_C l yX5_lay (ws_ yX5_lay cX5_lay 5 none) 0 0 [.ref th, .long x1] K P nx sl (mm_wwV K nx sl r) :=
  mm_start (ls := [some (.ref th), some (.long x1), none, none, none]) h (by decide) (Nat.le_of_ble_eq_true rfl) rfl (Nat.le_refl _) (Nat.le_refl _) rfl fun E hl9 _ _ _ C => by
  have C : mm_Cx E RX5 cX5_lay 5 none 0 0 := C
  unfold fX5_lay
  refine r_bipush (v := 56) C dX5_lay_0 rfl ?_
  refine r_istore_n (ls' := [some (.ref th), some (.long x1), none, some (.int (56 : Int32)), none]) C dX5_lay_2 rfl (Nat.le_of_ble_eq_true rfl) rfl rfl ?_
  exact wfX5_lay_b3 C hk mm_NF x1 (56 : Int32) P
/-! feed -/
def fX5_feed (th : Nat) (x1 : Int64) (x3 : Int64) (x5 : Int64) (P : mm_P) : Option (Int32 × mm_P) :=
  mm_lt (sI P 640 th (0 : Int32)) fun P1 =>
  mm_bd (fX5_lay th x1 P1) fun r2 =>
  mm_bd (fX5_lay th x3 r2) fun r4 =>
  mm_bd (fX5_lay th x5 r4) fun r6 =>
  some (gI r6 642 th, r6)
set_option maxHeartbeats 4000000 in
theorem mc_X5_feed {l : Launch} {K : mm_K} {P : mm_P} {th : Nat} {x1 : Int64} {x3 : Int64} {x5 : Int64} {nx sl : Nat} {r : (Int32 × mm_P)} (hk : K.1 th = 5) (h : fX5_feed th x1 x3 x5 P = some r) : mm_C l yX5_feed (ws_ yX5_feed cX5_feed 7 (some .int)) 1 24 [.ref th, .long x1, .long x3, .long x5] K P nx sl (mm_wwI K nx sl r) :=
  mm_start (ls := [some (.ref th), some (.long x1), none, some (.long x3), none, some (.long x5), none]) h (by decide) (Nat.le_of_ble_eq_true rfl) rfl (Nat.le_refl _) (Nat.le_refl _) rfl fun E hl9 _ _ _ C => by
  have C : mm_Cx E RX5 cX5_feed 7 (some .int) 1 24 := C
  unfold fX5_feed
  refine r_aload_n C dX5_feed_0 rfl rfl ?_
  refine r_iconst (v := 0) C dX5_feed_1 rfl ?_
  refine r_putI (code := 640) C fl_X5_1 hk rfl rfl dX5_feed_2 ?_
  refine r_ltP fun P1 => ?_
  refine r_aload_n C dX5_feed_5 rfl rfl ?_
  refine r_lload_n C dX5_feed_6 rfl rfl ?_
  refine r_bd fun r2 h3 => ?_
  refine r_callVv (As := [.long x1]) (st := []) C (mc_X5_lay hk h3) cv_X5_7 hk rfl (Nat.le_of_ble_eq_true rfl) (Nat.le_of_ble_eq_true rfl) rfl (Nat.le_of_ble_eq_true rfl) dX5_feed_7 ?_
  refine r_aload_n C dX5_feed_10 rfl rfl ?_
  refine r_lload_n C dX5_feed_11 rfl rfl ?_
  refine r_bd fun r4 h5 => ?_
  refine r_callVv (As := [.long x3]) (st := []) C (mc_X5_lay hk h5) cv_X5_7 hk rfl (Nat.le_of_ble_eq_true rfl) (Nat.le_of_ble_eq_true rfl) rfl (Nat.le_of_ble_eq_true rfl) dX5_feed_12 ?_
  refine r_aload_n C dX5_feed_15 rfl rfl ?_
  refine r_lload C dX5_feed_16 rfl ?_
  refine r_bd fun r6 h7 => ?_
  refine r_callVv (As := [.long x5]) (st := []) C (mc_X5_lay hk h7) cv_X5_7 hk rfl (Nat.le_of_ble_eq_true rfl) (Nat.le_of_ble_eq_true rfl) rfl (Nat.le_of_ble_eq_true rfl) dX5_feed_18 ?_
  refine r_aload_n C dX5_feed_21 rfl rfl ?_
  refine r_getI (code := 642) C fl_X5_11 hk rfl dX5_feed_22 ?_
  exact r_iret C dX5_feed_25 rfl
/-! standsAsAlways -/
def fX5_standsAsAlways_b2 (th : Nat)  : Nat → Int32 → Int32 → mm_P → Option mm_P
  | 0, _, _, _ => none
  | n + 1, x1, x2, P =>
  if (100 : Int32) ≤ x2 then
  (mm_gd (mm_in (x1 + (2 : Int32)) 200) <|
  mm_lt (sA P 650 th (x1 + (2 : Int32)).toNatClampNeg (1 : Int32)) fun P3 =>
  mm_gd (mm_in (x1 + (76 : Int32)) 200) <|
  mm_lt (sA P3 650 th (x1 + (76 : Int32)).toNatClampNeg (3 : Int32)) fun P5 =>
  mm_gd (mm_in (x1 + (3 : Int32)) 200) <|
  mm_lt (sA P5 650 th (x1 + (3 : Int32)).toNatClampNeg (20 : Int32)) fun P7 =>
  mm_gd (mm_in (x1 + (6 : Int32)) 200) <|
  mm_lt (sA P7 650 th (x1 + (6 : Int32)).toNatClampNeg (-1 : Int32)) fun P9 =>
  mm_gd (mm_in ((x1 + (6 : Int32)) + (1 : Int32)) 200) <|
  mm_lt (sA P9 650 th ((x1 + (6 : Int32)) + (1 : Int32)).toNatClampNeg (-1 : Int32)) fun P11 =>
  some P11)
  else
  (mm_gd (mm_in (x1 + x2) 200) <|
  mm_lt (sA P 650 th (x1 + x2).toNatClampNeg (0 : Int32)) fun P13 =>
  fX5_standsAsAlways_b2 th n x1 (x2 + (1 : Int32)) P13)
set_option maxHeartbeats 4000000 in
theorem wfX5_standsAsAlways_b2 {E : mm_E} (C : mm_Cx E RX5 cX5_standsAsAlways 3 none 0 0) {K : mm_K} {th : Nat} (hk : K.1 th = 5) {nx sl : Nat} : ∀ (n : Nat), ∀ (x1 : Int32) (x2 : Int32) (P : mm_P), mm_V E (mm_wwV K nx sl) 2 [some (.ref th), some (.int x1), some (.int x2)] [] K P nx sl (fX5_standsAsAlways_b2 th n x1 x2 P) := by
  intro n
  induction n with
  | zero => intro x1 x2 P; exact r_none
  | succ n ih =>
    intro x1 x2 P
    rw [fX5_standsAsAlways_b2]
    refine r_iload_n C dX5_standsAsAlways_2 rfl rfl ?_
    refine r_bipush (v := 100) C dX5_standsAsAlways_3 rfl ?_
    refine r_icmpge (tgt := 23) C dX5_standsAsAlways_5 (by decide) (fun h1 => ?_) (fun h1 => ?_)
    · refine r_aload_n C dX5_standsAsAlways_23 rfl rfl ?_
      refine r_getA C fl_X5_89 hk dX5_standsAsAlways_24 ?_
      refine r_iload_n C dX5_standsAsAlways_27 rfl rfl ?_
      refine r_iconst (v := 2) C dX5_standsAsAlways_28 rfl ?_
      refine r_iadd C dX5_standsAsAlways_29 ?_
      refine r_iconst (v := 1) C dX5_standsAsAlways_30 rfl ?_
      refine r_iast C (rg_650 hk) (mm_ro_of (k := 5) hk rfl) rfl dX5_standsAsAlways_31 fun h2 => ?_
      refine r_ltP fun P3 => ?_
      refine r_aload_n C dX5_standsAsAlways_32 rfl rfl ?_
      refine r_getA C fl_X5_89 hk dX5_standsAsAlways_33 ?_
      refine r_iload_n C dX5_standsAsAlways_36 rfl rfl ?_
      refine r_bipush (v := 76) C dX5_standsAsAlways_37 rfl ?_
      refine r_iadd C dX5_standsAsAlways_39 ?_
      refine r_iconst (v := 3) C dX5_standsAsAlways_40 rfl ?_
      refine r_iast C (rg_650 hk) (mm_ro_of (k := 5) hk rfl) rfl dX5_standsAsAlways_41 fun h4 => ?_
      refine r_ltP fun P5 => ?_
      refine r_aload_n C dX5_standsAsAlways_42 rfl rfl ?_
      refine r_getA C fl_X5_89 hk dX5_standsAsAlways_43 ?_
      refine r_iload_n C dX5_standsAsAlways_46 rfl rfl ?_
      refine r_iconst (v := 3) C dX5_standsAsAlways_47 rfl ?_
      refine r_iadd C dX5_standsAsAlways_48 ?_
      refine r_bipush (v := 20) C dX5_standsAsAlways_49 rfl ?_
      refine r_iast C (rg_650 hk) (mm_ro_of (k := 5) hk rfl) rfl dX5_standsAsAlways_51 fun h6 => ?_
      refine r_ltP fun P7 => ?_
      refine r_aload_n C dX5_standsAsAlways_52 rfl rfl ?_
      refine r_getA C fl_X5_89 hk dX5_standsAsAlways_53 ?_
      refine r_iload_n C dX5_standsAsAlways_56 rfl rfl ?_
      refine r_bipush (v := 6) C dX5_standsAsAlways_57 rfl ?_
      refine r_iadd C dX5_standsAsAlways_59 ?_
      refine r_iconst (v := -1) C dX5_standsAsAlways_60 rfl ?_
      refine r_iast C (rg_650 hk) (mm_ro_of (k := 5) hk rfl) rfl dX5_standsAsAlways_61 fun h8 => ?_
      refine r_ltP fun P9 => ?_
      refine r_aload_n C dX5_standsAsAlways_62 rfl rfl ?_
      refine r_getA C fl_X5_89 hk dX5_standsAsAlways_63 ?_
      refine r_iload_n C dX5_standsAsAlways_66 rfl rfl ?_
      refine r_bipush (v := 6) C dX5_standsAsAlways_67 rfl ?_
      refine r_iadd C dX5_standsAsAlways_69 ?_
      refine r_iconst (v := 1) C dX5_standsAsAlways_70 rfl ?_
      refine r_iadd C dX5_standsAsAlways_71 ?_
      refine r_iconst (v := -1) C dX5_standsAsAlways_72 rfl ?_
      refine r_iast C (rg_650 hk) (mm_ro_of (k := 5) hk rfl) rfl dX5_standsAsAlways_73 fun h10 => ?_
      refine r_ltP fun P11 => ?_
      exact r_vret C dX5_standsAsAlways_74 rfl
    · refine r_aload_n C dX5_standsAsAlways_8 rfl rfl ?_
      refine r_getA C fl_X5_89 hk dX5_standsAsAlways_9 ?_
      refine r_iload_n C dX5_standsAsAlways_12 rfl rfl ?_
      refine r_iload_n C dX5_standsAsAlways_13 rfl rfl ?_
      refine r_iadd C dX5_standsAsAlways_14 ?_
      refine r_iconst (v := 0) C dX5_standsAsAlways_15 rfl ?_
      refine r_iast C (rg_650 hk) (mm_ro_of (k := 5) hk rfl) rfl dX5_standsAsAlways_16 fun h12 => ?_
      refine r_ltP fun P13 => ?_
      refine r_iinc (v := 1) (ls' := [some (.ref th), some (.int x1), some (.int (x2 + (1 : Int32)))]) C dX5_standsAsAlways_17 rfl rfl (Nat.le_of_ble_eq_true rfl) rfl rfl ?_
      refine r_goto (tgt := 2) C dX5_standsAsAlways_20 (by decide) ?_
      exact ih x1 (x2 + (1 : Int32)) P13
def fX5_standsAsAlways (th : Nat) (x1 : Int32) (P : mm_P) : Option mm_P :=
  fX5_standsAsAlways_b2 th mm_NF x1 (0 : Int32) P
set_option maxHeartbeats 4000000 in
theorem mc_X5_standsAsAlways {l : Launch} {K : mm_K} {P : mm_P} {th : Nat} {x1 : Int32} {nx sl : Nat} {r : mm_P} (hk : K.1 th = 5) (h : fX5_standsAsAlways th x1 P = some r) : mm_C l yX5_standsAsAlways (ws_ yX5_standsAsAlways cX5_standsAsAlways 3 none) 0 0 [.ref th, .int x1] K P nx sl (mm_wwV K nx sl r) :=
  mm_start (ls := [some (.ref th), some (.int x1), none]) h (by decide) (Nat.le_of_ble_eq_true rfl) rfl (Nat.le_refl _) (Nat.le_refl _) rfl fun E hl9 _ _ _ C => by
  have C : mm_Cx E RX5 cX5_standsAsAlways 3 none 0 0 := C
  unfold fX5_standsAsAlways
  refine r_iconst (v := 0) C dX5_standsAsAlways_0 rfl ?_
  refine r_istore_n (ls' := [some (.ref th), some (.int x1), some (.int (0 : Int32))]) C dX5_standsAsAlways_1 rfl (Nat.le_of_ble_eq_true rfl) rfl rfl ?_
  exact wfX5_standsAsAlways_b2 C hk mm_NF x1 (0 : Int32) P
/-! starts -/
def fX5_starts_b39 (th : Nat)  : Nat → Int32 → Int32 → mm_P → Option mm_P
  | 0, _, _, _ => none
  | n + 1, x1, x2, P =>
  mm_gd (mm_in (1 : Int32) 200) <|
  if (gA P 650 th (1 : Int32).toNatClampNeg) ≤ x2 then
  (some P)
  else
  (mm_gd (mm_in ((68 : Int32) + x2) 200) <|
  mm_gd (mm_in ((x1 + (20 : Int32)) + x2) 1242) <|
  mm_lt (sA P 662 th ((x1 + (20 : Int32)) + x2).toNatClampNeg (gA P 650 th ((68 : Int32) + x2).toNatClampNeg)) fun P5 =>
  fX5_starts_b39 th n x1 (x2 + (1 : Int32)) P5)
set_option maxHeartbeats 4000000 in
theorem wfX5_starts_b39 {E : mm_E} (C : mm_Cx E RX5 cX5_starts 3 none 0 0) {K : mm_K} {th : Nat} (hk : K.1 th = 5) {nx sl : Nat} : ∀ (n : Nat), ∀ (x1 : Int32) (x2 : Int32) (P : mm_P), mm_V E (mm_wwV K nx sl) 39 [some (.ref th), some (.int x1), some (.int x2)] [] K P nx sl (fX5_starts_b39 th n x1 x2 P) := by
  intro n
  induction n with
  | zero => intro x1 x2 P; exact r_none
  | succ n ih =>
    intro x1 x2 P
    rw [fX5_starts_b39]
    refine r_iload_n C dX5_starts_39 rfl rfl ?_
    refine r_aload_n C dX5_starts_40 rfl rfl ?_
    refine r_getA C fl_X5_89 hk dX5_starts_41 ?_
    refine r_iconst (v := 1) C dX5_starts_44 rfl ?_
    refine r_iald C (rg_650 hk) rfl dX5_starts_45 fun h1 => ?_
    refine r_icmpge (tgt := 75) C dX5_starts_46 (by decide) (fun h2 => ?_) (fun h2 => ?_)
    · exact r_vret C dX5_starts_75 rfl
    · refine r_aload_n C dX5_starts_49 rfl rfl ?_
      refine r_getA C fl_X5_113 hk dX5_starts_50 ?_
      refine r_iload_n C dX5_starts_53 rfl rfl ?_
      refine r_bipush (v := 20) C dX5_starts_54 rfl ?_
      refine r_iadd C dX5_starts_56 ?_
      refine r_iload_n C dX5_starts_57 rfl rfl ?_
      refine r_iadd C dX5_starts_58 ?_
      refine r_aload_n C dX5_starts_59 rfl rfl ?_
      refine r_getA C fl_X5_89 hk dX5_starts_60 ?_
      refine r_bipush (v := 68) C dX5_starts_63 rfl ?_
      refine r_iload_n C dX5_starts_65 rfl rfl ?_
      refine r_iadd C dX5_starts_66 ?_
      refine r_iald C (rg_650 hk) rfl dX5_starts_67 fun h3 => ?_
      refine r_iast C (rg_662 hk) (mm_ro_of (k := 5) hk rfl) rfl dX5_starts_68 fun h4 => ?_
      refine r_ltP fun P5 => ?_
      refine r_iinc (v := 1) (ls' := [some (.ref th), some (.int x1), some (.int (x2 + (1 : Int32)))]) C dX5_starts_69 rfl rfl (Nat.le_of_ble_eq_true rfl) rfl rfl ?_
      refine r_goto (tgt := 39) C dX5_starts_72 (by decide) ?_
      exact ih x1 (x2 + (1 : Int32)) P5
def fX5_starts_b2 (th : Nat)  : Nat → Int32 → Int32 → mm_P → Option mm_P
  | 0, _, _, _ => none
  | n + 1, x1, x2, P =>
  if (28 : Int32) ≤ x2 then
  (mm_gd (mm_in (1 : Int32) 200) <|
  mm_gd (mm_in (x1 + (1 : Int32)) 1242) <|
  mm_lt (sA P 662 th (x1 + (1 : Int32)).toNatClampNeg (gA P 650 th (1 : Int32).toNatClampNeg)) fun P4 =>
  fX5_starts_b39 th mm_NF x1 (0 : Int32) P4)
  else
  (mm_gd (mm_in (x1 + x2) 1242) <|
  mm_lt (sA P 662 th (x1 + x2).toNatClampNeg (0 : Int32)) fun P6 =>
  fX5_starts_b2 th n x1 (x2 + (1 : Int32)) P6)
set_option maxHeartbeats 4000000 in
theorem wfX5_starts_b2 {E : mm_E} (C : mm_Cx E RX5 cX5_starts 3 none 0 0) {K : mm_K} {th : Nat} (hk : K.1 th = 5) {nx sl : Nat} : ∀ (n : Nat), ∀ (x1 : Int32) (x2 : Int32) (P : mm_P), mm_V E (mm_wwV K nx sl) 2 [some (.ref th), some (.int x1), some (.int x2)] [] K P nx sl (fX5_starts_b2 th n x1 x2 P) := by
  intro n
  induction n with
  | zero => intro x1 x2 P; exact r_none
  | succ n ih =>
    intro x1 x2 P
    rw [fX5_starts_b2]
    refine r_iload_n C dX5_starts_2 rfl rfl ?_
    refine r_bipush (v := 28) C dX5_starts_3 rfl ?_
    refine r_icmpge (tgt := 23) C dX5_starts_5 (by decide) (fun h1 => ?_) (fun h1 => ?_)
    · refine r_aload_n C dX5_starts_23 rfl rfl ?_
      refine r_getA C fl_X5_113 hk dX5_starts_24 ?_
      refine r_iload_n C dX5_starts_27 rfl rfl ?_
      refine r_iconst (v := 1) C dX5_starts_28 rfl ?_
      refine r_iadd C dX5_starts_29 ?_
      refine r_aload_n C dX5_starts_30 rfl rfl ?_
      refine r_getA C fl_X5_89 hk dX5_starts_31 ?_
      refine r_iconst (v := 1) C dX5_starts_34 rfl ?_
      refine r_iald C (rg_650 hk) rfl dX5_starts_35 fun h2 => ?_
      refine r_iast C (rg_662 hk) (mm_ro_of (k := 5) hk rfl) rfl dX5_starts_36 fun h3 => ?_
      refine r_ltP fun P4 => ?_
      refine r_iconst (v := 0) C dX5_starts_37 rfl ?_
      refine r_istore_n (ls' := [some (.ref th), some (.int x1), some (.int (0 : Int32))]) C dX5_starts_38 rfl (Nat.le_of_ble_eq_true rfl) rfl rfl ?_
      exact wfX5_starts_b39 C hk mm_NF x1 (0 : Int32) P4
    · refine r_aload_n C dX5_starts_8 rfl rfl ?_
      refine r_getA C fl_X5_113 hk dX5_starts_9 ?_
      refine r_iload_n C dX5_starts_12 rfl rfl ?_
      refine r_iload_n C dX5_starts_13 rfl rfl ?_
      refine r_iadd C dX5_starts_14 ?_
      refine r_iconst (v := 0) C dX5_starts_15 rfl ?_
      refine r_iast C (rg_662 hk) (mm_ro_of (k := 5) hk rfl) rfl dX5_starts_16 fun h5 => ?_
      refine r_ltP fun P6 => ?_
      refine r_iinc (v := 1) (ls' := [some (.ref th), some (.int x1), some (.int (x2 + (1 : Int32)))]) C dX5_starts_17 rfl rfl (Nat.le_of_ble_eq_true rfl) rfl rfl ?_
      refine r_goto (tgt := 2) C dX5_starts_20 (by decide) ?_
      exact ih x1 (x2 + (1 : Int32)) P6
def fX5_starts (th : Nat) (x1 : Int32) (P : mm_P) : Option mm_P :=
  fX5_starts_b2 th mm_NF x1 (0 : Int32) P
set_option maxHeartbeats 4000000 in
theorem mc_X5_starts {l : Launch} {K : mm_K} {P : mm_P} {th : Nat} {x1 : Int32} {nx sl : Nat} {r : mm_P} (hk : K.1 th = 5) (h : fX5_starts th x1 P = some r) : mm_C l yX5_starts (ws_ yX5_starts cX5_starts 3 none) 0 0 [.ref th, .int x1] K P nx sl (mm_wwV K nx sl r) :=
  mm_start (ls := [some (.ref th), some (.int x1), none]) h (by decide) (Nat.le_of_ble_eq_true rfl) rfl (Nat.le_refl _) (Nat.le_refl _) rfl fun E hl9 _ _ _ C => by
  have C : mm_Cx E RX5 cX5_starts 3 none 0 0 := C
  unfold fX5_starts
  refine r_iconst (v := 0) C dX5_starts_0 rfl ?_
  refine r_istore_n (ls' := [some (.ref th), some (.int x1), some (.int (0 : Int32))]) C dX5_starts_1 rfl (Nat.le_of_ble_eq_true rfl) rfl rfl ?_
  exact wfX5_starts_b2 C hk mm_NF x1 (0 : Int32) P
/-! begins -/
def fX5_begins_b27 (th : Nat)  : Nat → Int32 → mm_P → Option mm_P
  | 0, _, _ => none
  | n + 1, x1, P =>
  if (4 : Int32) ≤ x1 then
  (some P)
  else
  (mm_gd (mm_in x1 4) <|
  mm_lt (sA P 664 th x1.toNatClampNeg ((0 : Int32) &&& 1)) fun P3 =>
  fX5_begins_b27 th n (x1 + (1 : Int32)) P3)
set_option maxHeartbeats 4000000 in
theorem wfX5_begins_b27 {E : mm_E} (C : mm_Cx E RX5 cX5_begins 2 none 1 22) {K : mm_K} {th : Nat} (hk : K.1 th = 5) {nx sl : Nat} : ∀ (n : Nat), ∀ (x1 : Int32) (P : mm_P), mm_V E (mm_wwV K nx sl) 27 [some (.ref th), some (.int x1)] [] K P nx sl (fX5_begins_b27 th n x1 P) := by
  intro n
  induction n with
  | zero => intro x1 P; exact r_none
  | succ n ih =>
    intro x1 P
    rw [fX5_begins_b27]
    refine r_iload_n C dX5_begins_27 rfl rfl ?_
    refine r_iconst (v := 4) C dX5_begins_28 rfl ?_
    refine r_icmpge (tgt := 45) C dX5_begins_29 (by decide) (fun h1 => ?_) (fun h1 => ?_)
    · exact r_vret C dX5_begins_45 rfl
    · refine r_aload_n C dX5_begins_32 rfl rfl ?_
      refine r_getA C fl_X5_116 hk dX5_begins_33 ?_
      refine r_iload_n C dX5_begins_36 rfl rfl ?_
      refine r_iconst (v := 0) C dX5_begins_37 rfl ?_
      refine r_zast C (rg_664 hk) (mm_ro_of (k := 5) hk rfl) rfl dX5_begins_38 fun h2 => ?_
      refine r_ltP fun P3 => ?_
      refine r_iinc (v := 1) (ls' := [some (.ref th), some (.int (x1 + (1 : Int32)))]) C dX5_begins_39 rfl rfl (Nat.le_of_ble_eq_true rfl) rfl rfl ?_
      refine r_goto (tgt := 27) C dX5_begins_42 (by decide) ?_
      exact ih (x1 + (1 : Int32)) P3
def fX5_begins (th : Nat)  (P : mm_P) : Option mm_P :=
  mm_bd (fX5_starts th (0 : Int32) P) fun r1 =>
  mm_gd (mm_in (28 : Int32) 1242) <|
  mm_lt (sA r1 662 th (28 : Int32).toNatClampNeg (0 : Int32)) fun P4 =>
  mm_gd (mm_in (0 : Int32) 200) <|
  mm_lt (sA P4 659 th (0 : Int32).toNatClampNeg (0 : Int32)) fun P6 =>
  mm_lt (sI P6 663 th (0 : Int32)) fun P7 =>
  fX5_begins_b27 th mm_NF (0 : Int32) P7
set_option maxHeartbeats 4000000 in
theorem mc_X5_begins {l : Launch} {K : mm_K} {P : mm_P} {th : Nat}  {nx sl : Nat} {r : mm_P} (hk : K.1 th = 5) (h : fX5_begins th P = some r) : mm_C l yX5_begins (ws_ yX5_begins cX5_begins 2 none) 1 22 [.ref th] K P nx sl (mm_wwV K nx sl r) :=
  mm_start (ls := [some (.ref th), none]) h (by decide) (Nat.le_of_ble_eq_true rfl) rfl (Nat.le_refl _) (Nat.le_refl _) rfl fun E hl9 _ _ _ C => by
  have C : mm_Cx E RX5 cX5_begins 2 none 1 22 := C
  unfold fX5_begins
  refine r_aload_n C dX5_begins_0 rfl rfl ?_
  refine r_iconst (v := 0) C dX5_begins_1 rfl ?_
  refine r_bd fun r1 h2 => ?_
  refine r_callVv (As := [.int (0 : Int32)]) (st := []) C (mc_X5_starts hk h2) cv_X5_282 hk rfl (Nat.le_of_ble_eq_true rfl) (Nat.le_of_ble_eq_true rfl) rfl (Nat.le_of_ble_eq_true rfl) dX5_begins_2 ?_
  refine r_aload_n C dX5_begins_5 rfl rfl ?_
  refine r_getA C fl_X5_113 hk dX5_begins_6 ?_
  refine r_bipush (v := 28) C dX5_begins_9 rfl ?_
  refine r_iconst (v := 0) C dX5_begins_11 rfl ?_
  refine r_iast C (rg_662 hk) (mm_ro_of (k := 5) hk rfl) rfl dX5_begins_12 fun h3 => ?_
  refine r_ltP fun P4 => ?_
  refine r_aload_n C dX5_begins_13 rfl rfl ?_
  refine r_getA C fl_X5_104 hk dX5_begins_14 ?_
  refine r_iconst (v := 0) C dX5_begins_17 rfl ?_
  refine r_iconst (v := 0) C dX5_begins_18 rfl ?_
  refine r_iast C (rg_659 hk) (mm_ro_of (k := 5) hk rfl) rfl dX5_begins_19 fun h5 => ?_
  refine r_ltP fun P6 => ?_
  refine r_aload_n C dX5_begins_20 rfl rfl ?_
  refine r_iconst (v := 0) C dX5_begins_21 rfl ?_
  refine r_putI (code := 663) C fl_X5_285 hk rfl rfl dX5_begins_22 ?_
  refine r_ltP fun P7 => ?_
  refine r_iconst (v := 0) C dX5_begins_25 rfl ?_
  refine r_istore_n (ls' := [some (.ref th), some (.int (0 : Int32))]) C dX5_begins_26 rfl (Nat.le_of_ble_eq_true rfl) rfl rfl ?_
  exact wfX5_begins_b27 C hk mm_NF (0 : Int32) P7
/-! isLetter -/
def fX5_isLetter  (x0 : Int32) : Option Int32 :=
  if x0 < (97 : Int32) then
  (some ((0 : Int32)))
  else
  (if (122 : Int32) < x0 then
  (some ((0 : Int32)))
  else
  (some ((1 : Int32))))
set_option maxHeartbeats 4000000 in
theorem mc_X5_isLetter {l : Launch} {K : mm_K} {P : mm_P} {x0 : Int32} {nx sl : Nat} {r : Int32} (h : fX5_isLetter x0 = some r) : mm_C l yX5_isLetter (ws_ yX5_isLetter cX5_isLetter 1 (some .boolean)) 0 0 [.int x0] K P nx sl (mm_wrI K P nx sl r) :=
  mm_start (ls := [some (.int x0)]) h (by decide) (Nat.le_of_ble_eq_true rfl) rfl (Nat.le_refl _) (Nat.le_refl _) rfl fun E hl9 _ _ _ C => by
  have C : mm_Cx E RX5 cX5_isLetter 1 (some .boolean) 0 0 := C
  unfold fX5_isLetter
  refine r_iload_n C dX5_isLetter_0 rfl rfl ?_
  refine r_bipush (v := 97) C dX5_isLetter_1 rfl ?_
  refine r_icmplt (tgt := 16) C dX5_isLetter_3 (by decide) (fun h1 => ?_) (fun h1 => ?_)
  · refine r_iconst (v := 0) C dX5_isLetter_16 rfl ?_
    exact r_zret C dX5_isLetter_17 rfl rfl
  · refine r_iload_n C dX5_isLetter_6 rfl rfl ?_
    refine r_bipush (v := 122) C dX5_isLetter_7 rfl ?_
    refine r_icmpgt (tgt := 16) C dX5_isLetter_9 (by decide) (fun h2 => ?_) (fun h2 => ?_)
    · refine r_iconst (v := 0) C dX5_isLetter_16 rfl ?_
      exact r_zret C dX5_isLetter_17 rfl rfl
    · refine r_iconst (v := 1) C dX5_isLetter_12 rfl ?_
      refine r_goto (tgt := 17) C dX5_isLetter_13 (by decide) ?_
      exact r_zret C dX5_isLetter_17 rfl rfl
/-! rank -/
def fX5_rank  (x0 : Int32) : Option Int32 :=
  mm_bd (fX5_isLetter x0) fun r1 =>
  if r1 = 0 then
  (some (x0 - (21 : Int32)))
  else
  (some (x0 - (96 : Int32)))
set_option maxHeartbeats 4000000 in
theorem mc_X5_rank {l : Launch} {K : mm_K} {P : mm_P} {x0 : Int32} {nx sl : Nat} {r : Int32} (h : fX5_rank x0 = some r) : mm_C l yX5_rank (ws_ yX5_rank cX5_rank 1 (some .int)) 1 20 [.int x0] K P nx sl (mm_wrI K P nx sl r) :=
  mm_start (ls := [some (.int x0)]) h (by decide) (Nat.le_of_ble_eq_true rfl) rfl (Nat.le_refl _) (Nat.le_refl _) rfl fun E hl9 _ _ _ C => by
  have C : mm_Cx E RX5 cX5_rank 1 (some .int) 1 20 := C
  unfold fX5_rank
  refine r_iload_n C dX5_rank_0 rfl rfl ?_
  refine r_bd fun r1 h2 => ?_
  refine r_callS (As := [.int x0]) (st := []) C (mc_X5_isLetter h2) cv_X5_151  rfl (Nat.le_of_ble_eq_true rfl) (Nat.le_of_ble_eq_true rfl) rfl (Nat.le_of_ble_eq_true rfl) dX5_rank_1 ?_
  refine r_ifeq (tgt := 14) C dX5_rank_4 (by decide) (fun h3 => ?_) (fun h3 => ?_)
  · refine r_iload_n C dX5_rank_14 rfl rfl ?_
    refine r_bipush (v := 21) C dX5_rank_15 rfl ?_
    refine r_isub C dX5_rank_17 ?_
    exact r_iret C dX5_rank_18 rfl
  · refine r_iload_n C dX5_rank_7 rfl rfl ?_
    refine r_bipush (v := 96) C dX5_rank_8 rfl ?_
    refine r_isub C dX5_rank_10 ?_
    refine r_goto (tgt := 18) C dX5_rank_11 (by decide) ?_
    exact r_iret C dX5_rank_18 rfl
/-! isDigit -/
def fX5_isDigit  (x0 : Int32) : Option Int32 :=
  if x0 < (48 : Int32) then
  (some ((0 : Int32)))
  else
  (if (57 : Int32) < x0 then
  (some ((0 : Int32)))
  else
  (some ((1 : Int32))))
set_option maxHeartbeats 4000000 in
theorem mc_X5_isDigit {l : Launch} {K : mm_K} {P : mm_P} {x0 : Int32} {nx sl : Nat} {r : Int32} (h : fX5_isDigit x0 = some r) : mm_C l yX5_isDigit (ws_ yX5_isDigit cX5_isDigit 1 (some .boolean)) 0 0 [.int x0] K P nx sl (mm_wrI K P nx sl r) :=
  mm_start (ls := [some (.int x0)]) h (by decide) (Nat.le_of_ble_eq_true rfl) rfl (Nat.le_refl _) (Nat.le_refl _) rfl fun E hl9 _ _ _ C => by
  have C : mm_Cx E RX5 cX5_isDigit 1 (some .boolean) 0 0 := C
  unfold fX5_isDigit
  refine r_iload_n C dX5_isDigit_0 rfl rfl ?_
  refine r_bipush (v := 48) C dX5_isDigit_1 rfl ?_
  refine r_icmplt (tgt := 16) C dX5_isDigit_3 (by decide) (fun h1 => ?_) (fun h1 => ?_)
  · refine r_iconst (v := 0) C dX5_isDigit_16 rfl ?_
    exact r_zret C dX5_isDigit_17 rfl rfl
  · refine r_iload_n C dX5_isDigit_6 rfl rfl ?_
    refine r_bipush (v := 57) C dX5_isDigit_7 rfl ?_
    refine r_icmpgt (tgt := 16) C dX5_isDigit_9 (by decide) (fun h2 => ?_) (fun h2 => ?_)
    · refine r_iconst (v := 0) C dX5_isDigit_16 rfl ?_
      exact r_zret C dX5_isDigit_17 rfl rfl
    · refine r_iconst (v := 1) C dX5_isDigit_12 rfl ?_
      refine r_goto (tgt := 17) C dX5_isDigit_13 (by decide) ?_
      exact r_zret C dX5_isDigit_17 rfl rfl
/-! isSignOf -/
def fX5_isSignOf  (x0 : Int32) : Option Int32 :=
  if x0 = (40 : Int32) then
  (some ((1 : Int32)))
  else
  (if x0 = (41 : Int32) then
  (some ((1 : Int32)))
  else
  (if x0 = (59 : Int32) then
  (some ((1 : Int32)))
  else
  (if x0 = (61 : Int32) then
  (some ((1 : Int32)))
  else
  (if x0 = (60 : Int32) then
  (some ((1 : Int32)))
  else
  (if x0 = (43 : Int32) then
  (some ((1 : Int32)))
  else
  (if x0 = (45 : Int32) then
  (some ((1 : Int32)))
  else
  (if x0 ≠ (42 : Int32) then
  (some ((0 : Int32)))
  else
  (some ((1 : Int32))))))))))
set_option maxHeartbeats 4000000 in
theorem mc_X5_isSignOf {l : Launch} {K : mm_K} {P : mm_P} {x0 : Int32} {nx sl : Nat} {r : Int32} (h : fX5_isSignOf x0 = some r) : mm_C l yX5_isSignOf (ws_ yX5_isSignOf cX5_isSignOf 1 (some .boolean)) 0 0 [.int x0] K P nx sl (mm_wrI K P nx sl r) :=
  mm_start (ls := [some (.int x0)]) h (by decide) (Nat.le_of_ble_eq_true rfl) rfl (Nat.le_refl _) (Nat.le_refl _) rfl fun E hl9 _ _ _ C => by
  have C : mm_Cx E RX5 cX5_isSignOf 1 (some .boolean) 0 0 := C
  unfold fX5_isSignOf
  refine r_iload_n C dX5_isSignOf_0 rfl rfl ?_
  refine r_bipush (v := 40) C dX5_isSignOf_1 rfl ?_
  refine r_icmpeq (tgt := 48) C dX5_isSignOf_3 (by decide) (fun h1 => ?_) (fun h1 => ?_)
  · refine r_iconst (v := 1) C dX5_isSignOf_48 rfl ?_
    refine r_goto (tgt := 53) C dX5_isSignOf_49 (by decide) ?_
    exact r_zret C dX5_isSignOf_53 rfl rfl
  · refine r_iload_n C dX5_isSignOf_6 rfl rfl ?_
    refine r_bipush (v := 41) C dX5_isSignOf_7 rfl ?_
    refine r_icmpeq (tgt := 48) C dX5_isSignOf_9 (by decide) (fun h2 => ?_) (fun h2 => ?_)
    · refine r_iconst (v := 1) C dX5_isSignOf_48 rfl ?_
      refine r_goto (tgt := 53) C dX5_isSignOf_49 (by decide) ?_
      exact r_zret C dX5_isSignOf_53 rfl rfl
    · refine r_iload_n C dX5_isSignOf_12 rfl rfl ?_
      refine r_bipush (v := 59) C dX5_isSignOf_13 rfl ?_
      refine r_icmpeq (tgt := 48) C dX5_isSignOf_15 (by decide) (fun h3 => ?_) (fun h3 => ?_)
      · refine r_iconst (v := 1) C dX5_isSignOf_48 rfl ?_
        refine r_goto (tgt := 53) C dX5_isSignOf_49 (by decide) ?_
        exact r_zret C dX5_isSignOf_53 rfl rfl
      · refine r_iload_n C dX5_isSignOf_18 rfl rfl ?_
        refine r_bipush (v := 61) C dX5_isSignOf_19 rfl ?_
        refine r_icmpeq (tgt := 48) C dX5_isSignOf_21 (by decide) (fun h4 => ?_) (fun h4 => ?_)
        · refine r_iconst (v := 1) C dX5_isSignOf_48 rfl ?_
          refine r_goto (tgt := 53) C dX5_isSignOf_49 (by decide) ?_
          exact r_zret C dX5_isSignOf_53 rfl rfl
        · refine r_iload_n C dX5_isSignOf_24 rfl rfl ?_
          refine r_bipush (v := 60) C dX5_isSignOf_25 rfl ?_
          refine r_icmpeq (tgt := 48) C dX5_isSignOf_27 (by decide) (fun h5 => ?_) (fun h5 => ?_)
          · refine r_iconst (v := 1) C dX5_isSignOf_48 rfl ?_
            refine r_goto (tgt := 53) C dX5_isSignOf_49 (by decide) ?_
            exact r_zret C dX5_isSignOf_53 rfl rfl
          · refine r_iload_n C dX5_isSignOf_30 rfl rfl ?_
            refine r_bipush (v := 43) C dX5_isSignOf_31 rfl ?_
            refine r_icmpeq (tgt := 48) C dX5_isSignOf_33 (by decide) (fun h6 => ?_) (fun h6 => ?_)
            · refine r_iconst (v := 1) C dX5_isSignOf_48 rfl ?_
              refine r_goto (tgt := 53) C dX5_isSignOf_49 (by decide) ?_
              exact r_zret C dX5_isSignOf_53 rfl rfl
            · refine r_iload_n C dX5_isSignOf_36 rfl rfl ?_
              refine r_bipush (v := 45) C dX5_isSignOf_37 rfl ?_
              refine r_icmpeq (tgt := 48) C dX5_isSignOf_39 (by decide) (fun h7 => ?_) (fun h7 => ?_)
              · refine r_iconst (v := 1) C dX5_isSignOf_48 rfl ?_
                refine r_goto (tgt := 53) C dX5_isSignOf_49 (by decide) ?_
                exact r_zret C dX5_isSignOf_53 rfl rfl
              · refine r_iload_n C dX5_isSignOf_42 rfl rfl ?_
                refine r_bipush (v := 42) C dX5_isSignOf_43 rfl ?_
                refine r_icmpne (tgt := 52) C dX5_isSignOf_45 (by decide) (fun h8 => ?_) (fun h8 => ?_)
                · refine r_iconst (v := 0) C dX5_isSignOf_52 rfl ?_
                  exact r_zret C dX5_isSignOf_53 rfl rfl
                · refine r_iconst (v := 1) C dX5_isSignOf_48 rfl ?_
                  refine r_goto (tgt := 53) C dX5_isSignOf_49 (by decide) ?_
                  exact r_zret C dX5_isSignOf_53 rfl rfl
/-! cutAll -/
def fX5_cutAll_b265 (th : Nat) (k17 : Int32 → Int32 → mm_P → Option mm_P) (x1 : Int32) (x2 : Int32) (x5 : Int64) (P : mm_P) : Option mm_P :=
  mm_gd (mm_in x1 1002) <|
  mm_lt (sL P 646 th x1.toNatClampNeg x5) fun P2 =>
  k17 (x1 + (1 : Int32)) x2 P2
set_option maxHeartbeats 4000000 in
theorem wfX5_cutAll_b265 {E : mm_E} (C : mm_Cx E RX5 cX5_cutAll 7 none 2 40) {K : mm_K} {th : Nat} (hk : K.1 th = 5) {nx sl : Nat} {k17 : Int32 → Int32 → mm_P → Option mm_P} (hk17 : ∀ (x1 : Int32) (x2 : Int32) (P : mm_P), mm_V E (mm_wwV K nx sl) 17 [some (.ref th), some (.int x1), some (.int x2), none, none, none, none] [] K P nx sl (k17 x1 x2 P)) (x1 : Int32) (x2 : Int32) (x5 : Int64) (P : mm_P) : mm_V E (mm_wwV K nx sl) 265 [some (.ref th), some (.int x1), some (.int x2), none, none, some (.long x5), none] [] K P nx sl (fX5_cutAll_b265 th k17 x1 x2 x5 P) := by
  unfold fX5_cutAll_b265
  refine r_aload_n C dX5_cutAll_265 rfl rfl ?_
  refine r_getA C fl_X5_30 hk dX5_cutAll_266 ?_
  refine r_iload_n C dX5_cutAll_269 rfl rfl ?_
  refine r_lload C dX5_cutAll_270 rfl ?_
  refine r_last C (rg_646 hk) (mm_ro_of (k := 5) hk rfl) rfl dX5_cutAll_272 fun h1 => ?_
  refine r_ltP fun P2 => ?_
  refine r_iinc (v := 1) (ls' := [some (.ref th), some (.int (x1 + (1 : Int32))), some (.int x2), none, none, some (.long x5), none]) C dX5_cutAll_273 rfl rfl (Nat.le_of_ble_eq_true rfl) rfl rfl ?_
  refine r_goto (tgt := 17) C dX5_cutAll_276 (by decide) ?_
  refine r_mask [true, true, true, true, true, false, true] (ls' := [some (.ref th), some (.int (x1 + (1 : Int32))), some (.int x2), none, none, none, none]) rfl ?_
  exact hk17 (x1 + (1 : Int32)) x2 P2
def fX5_cutAll_b261 (th : Nat) (k17 : Int32 → Int32 → mm_P → Option mm_P) (x1 : Int32) (x2 : Int32) (x5 : Int64) (s1 : Int32) (s2 : Int32) (P : mm_P) : Option mm_P :=
  mm_gd (mm_in s1 1002) <|
  mm_lt (sA P 644 th s1.toNatClampNeg s2) fun P2 =>
  fX5_cutAll_b265 th k17 x1 (x2 + (1 : Int32)) x5 P2
set_option maxHeartbeats 4000000 in
theorem wfX5_cutAll_b261 {E : mm_E} (C : mm_Cx E RX5 cX5_cutAll 7 none 2 40) {K : mm_K} {th : Nat} (hk : K.1 th = 5) {nx sl : Nat} {k17 : Int32 → Int32 → mm_P → Option mm_P} (hk17 : ∀ (x1 : Int32) (x2 : Int32) (P : mm_P), mm_V E (mm_wwV K nx sl) 17 [some (.ref th), some (.int x1), some (.int x2), none, none, none, none] [] K P nx sl (k17 x1 x2 P)) (x1 : Int32) (x2 : Int32) (x5 : Int64) (s1 : Int32) (s2 : Int32) (P : mm_P) : mm_V E (mm_wwV K nx sl) 261 [some (.ref th), some (.int x1), some (.int x2), none, none, some (.long x5), none] [.int s2, .int s1, .ref (th + 2)] K P nx sl (fX5_cutAll_b261 th k17 x1 x2 x5 s1 s2 P) := by
  unfold fX5_cutAll_b261
  refine r_iast C (rg_644 hk) (mm_ro_of (k := 5) hk rfl) rfl dX5_cutAll_261 fun h1 => ?_
  refine r_ltP fun P2 => ?_
  refine r_iinc (v := 1) (ls' := [some (.ref th), some (.int x1), some (.int (x2 + (1 : Int32))), none, none, some (.long x5), none]) C dX5_cutAll_262 rfl rfl (Nat.le_of_ble_eq_true rfl) rfl rfl ?_
  exact wfX5_cutAll_b265 C hk hk17 x1 (x2 + (1 : Int32)) x5 P2
def fX5_cutAll_b236 (th : Nat) (k17 : Int32 → Int32 → mm_P → Option mm_P) (x1 : Int32) (x2 : Int32) (x5 : Int64) (s1 : Int32) (s2 : Int32) (P : mm_P) : Option mm_P :=
  mm_gd (mm_in s1 1002) <|
  mm_lt (sA P 644 th s1.toNatClampNeg s2) fun P2 =>
  fX5_cutAll_b265 th k17 x1 x2 x5 P2
set_option maxHeartbeats 4000000 in
theorem wfX5_cutAll_b236 {E : mm_E} (C : mm_Cx E RX5 cX5_cutAll 7 none 2 40) {K : mm_K} {th : Nat} (hk : K.1 th = 5) {nx sl : Nat} {k17 : Int32 → Int32 → mm_P → Option mm_P} (hk17 : ∀ (x1 : Int32) (x2 : Int32) (P : mm_P), mm_V E (mm_wwV K nx sl) 17 [some (.ref th), some (.int x1), some (.int x2), none, none, none, none] [] K P nx sl (k17 x1 x2 P)) (x1 : Int32) (x2 : Int32) (x5 : Int64) (s1 : Int32) (s2 : Int32) (P : mm_P) : mm_V E (mm_wwV K nx sl) 236 [some (.ref th), some (.int x1), some (.int x2), none, none, some (.long x5), none] [.int s2, .int s1, .ref (th + 2)] K P nx sl (fX5_cutAll_b236 th k17 x1 x2 x5 s1 s2 P) := by
  unfold fX5_cutAll_b236
  refine r_iast C (rg_644 hk) (mm_ro_of (k := 5) hk rfl) rfl dX5_cutAll_236 fun h1 => ?_
  refine r_ltP fun P2 => ?_
  refine r_goto (tgt := 265) C dX5_cutAll_237 (by decide) ?_
  exact wfX5_cutAll_b265 C hk hk17 x1 x2 x5 P2
def fX5_cutAll_b218 (th : Nat) (k17 : Int32 → Int32 → mm_P → Option mm_P) (x1 : Int32) (x2 : Int32) (x4 : Int32) (x5 : Int64) (P : mm_P) : Option mm_P :=
  if (x2 - x4) ≤ (4 : Int32) then
  (fX5_cutAll_b236 th k17 x1 x2 x5 x1 (2 : Int32) P)
  else
  (fX5_cutAll_b236 th k17 x1 x2 x5 x1 (4 : Int32) P)
set_option maxHeartbeats 4000000 in
theorem wfX5_cutAll_b218 {E : mm_E} (C : mm_Cx E RX5 cX5_cutAll 7 none 2 40) {K : mm_K} {th : Nat} (hk : K.1 th = 5) {nx sl : Nat} {k17 : Int32 → Int32 → mm_P → Option mm_P} (hk17 : ∀ (x1 : Int32) (x2 : Int32) (P : mm_P), mm_V E (mm_wwV K nx sl) 17 [some (.ref th), some (.int x1), some (.int x2), none, none, none, none] [] K P nx sl (k17 x1 x2 P)) (x1 : Int32) (x2 : Int32) (x4 : Int32) (x5 : Int64) (P : mm_P) : mm_V E (mm_wwV K nx sl) 218 [some (.ref th), some (.int x1), some (.int x2), none, some (.int x4), some (.long x5), none] [] K P nx sl (fX5_cutAll_b218 th k17 x1 x2 x4 x5 P) := by
  unfold fX5_cutAll_b218
  refine r_aload_n C dX5_cutAll_218 rfl rfl ?_
  refine r_getA C fl_X5_24 hk dX5_cutAll_219 ?_
  refine r_iload_n C dX5_cutAll_222 rfl rfl ?_
  refine r_iload_n C dX5_cutAll_223 rfl rfl ?_
  refine r_iload C dX5_cutAll_224 rfl ?_
  refine r_isub C dX5_cutAll_226 ?_
  refine r_iconst (v := 4) C dX5_cutAll_227 rfl ?_
  refine r_icmple (tgt := 235) C dX5_cutAll_228 (by decide) (fun h1 => ?_) (fun h1 => ?_)
  · refine r_iconst (v := 2) C dX5_cutAll_235 rfl ?_
    refine r_mask [true, true, true, true, false, true, true] (ls' := [some (.ref th), some (.int x1), some (.int x2), none, none, some (.long x5), none]) rfl ?_
    exact wfX5_cutAll_b236 C hk hk17 x1 x2 x5 x1 (2 : Int32) P
  · refine r_iconst (v := 4) C dX5_cutAll_231 rfl ?_
    refine r_goto (tgt := 236) C dX5_cutAll_232 (by decide) ?_
    refine r_mask [true, true, true, true, false, true, true] (ls' := [some (.ref th), some (.int x1), some (.int x2), none, none, some (.long x5), none]) rfl ?_
    exact wfX5_cutAll_b236 C hk hk17 x1 x2 x5 x1 (4 : Int32) P
def fX5_cutAll_b159 (th : Nat) (k17 : Int32 → Int32 → mm_P → Option mm_P) : Nat → Int32 → Int32 → Int32 → Int64 → mm_P → Option mm_P
  | 0, _, _, _, _, _ => none
  | n + 1, x1, x2, x4, x5, P =>
  if (gI P 643 th) ≤ x2 then
  (fX5_cutAll_b218 th k17 x1 x2 x4 x5 P)
  else
  (mm_gd (mm_in x2 1000) <|
  mm_bd (fX5_isDigit (gA P 641 th x2.toNatClampNeg)) fun r3 =>
  if r3 = 0 then
  (fX5_cutAll_b218 th k17 x1 x2 x4 x5 P)
  else
  (if (4 : Int32) ≤ (x2 - x4) then
  (fX5_cutAll_b159 th k17 n x1 (x2 + (1 : Int32)) x4 x5 P)
  else
  (mm_gd (mm_in x2 1000) <|
  mm_lt ((((10 : Int64) * x5) + ((gA P 641 th x2.toNatClampNeg).toInt64)) - (48 : Int64)) fun v8 =>
  fX5_cutAll_b159 th k17 n x1 (x2 + (1 : Int32)) x4 v8 P)))
set_option maxHeartbeats 4000000 in
theorem wfX5_cutAll_b159 {E : mm_E} (C : mm_Cx E RX5 cX5_cutAll 7 none 2 40) {K : mm_K} {th : Nat} (hk : K.1 th = 5) {nx sl : Nat} {k17 : Int32 → Int32 → mm_P → Option mm_P} (hk17 : ∀ (x1 : Int32) (x2 : Int32) (P : mm_P), mm_V E (mm_wwV K nx sl) 17 [some (.ref th), some (.int x1), some (.int x2), none, none, none, none] [] K P nx sl (k17 x1 x2 P)) : ∀ (n : Nat), ∀ (x1 : Int32) (x2 : Int32) (x4 : Int32) (x5 : Int64) (P : mm_P), mm_V E (mm_wwV K nx sl) 159 [some (.ref th), some (.int x1), some (.int x2), none, some (.int x4), some (.long x5), none] [] K P nx sl (fX5_cutAll_b159 th k17 n x1 x2 x4 x5 P) := by
  intro n
  induction n with
  | zero => intro x1 x2 x4 x5 P; exact r_none
  | succ n ih =>
    intro x1 x2 x4 x5 P
    rw [fX5_cutAll_b159]
    refine r_iload_n C dX5_cutAll_159 rfl rfl ?_
    refine r_aload_n C dX5_cutAll_160 rfl rfl ?_
    refine r_getI (code := 643) C fl_X5_155 hk rfl dX5_cutAll_161 ?_
    refine r_icmpge (tgt := 218) C dX5_cutAll_164 (by decide) (fun h1 => ?_) (fun h1 => ?_)
    · exact wfX5_cutAll_b218 C hk hk17 x1 x2 x4 x5 P
    · refine r_aload_n C dX5_cutAll_167 rfl rfl ?_
      refine r_getA C fl_X5_14 hk dX5_cutAll_168 ?_
      refine r_iload_n C dX5_cutAll_171 rfl rfl ?_
      refine r_iald C (rg_641 hk) rfl dX5_cutAll_172 fun h2 => ?_
      refine r_bd fun r3 h4 => ?_
      refine r_callS (As := [.int (gA P 641 th x2.toNatClampNeg)]) (st := []) C (mc_X5_isDigit h4) cv_X5_164  rfl (Nat.le_of_ble_eq_true rfl) (Nat.le_of_ble_eq_true rfl) rfl (Nat.le_of_ble_eq_true rfl) dX5_cutAll_173 ?_
      refine r_ifeq (tgt := 218) C dX5_cutAll_176 (by decide) (fun h5 => ?_) (fun h5 => ?_)
      · exact wfX5_cutAll_b218 C hk hk17 x1 x2 x4 x5 P
      · refine r_iload_n C dX5_cutAll_179 rfl rfl ?_
        refine r_iload C dX5_cutAll_180 rfl ?_
        refine r_isub C dX5_cutAll_182 ?_
        refine r_iconst (v := 4) C dX5_cutAll_183 rfl ?_
        refine r_icmpge (tgt := 208) C dX5_cutAll_184 (by decide) (fun h6 => ?_) (fun h6 => ?_)
        · refine r_lload C dX5_cutAll_208 rfl ?_
          refine r_lstore (ls' := [some (.ref th), some (.int x1), some (.int x2), none, some (.int x4), some (.long x5), none]) C dX5_cutAll_210 (Nat.le_of_ble_eq_true rfl) rfl rfl ?_
          refine r_iinc (v := 1) (ls' := [some (.ref th), some (.int x1), some (.int (x2 + (1 : Int32))), none, some (.int x4), some (.long x5), none]) C dX5_cutAll_212 rfl rfl (Nat.le_of_ble_eq_true rfl) rfl rfl ?_
          refine r_goto (tgt := 159) C dX5_cutAll_215 (by decide) ?_
          exact ih x1 (x2 + (1 : Int32)) x4 x5 P
        · refine r_ldc2 (v := 10) C dX5_cutAll_187 q1798 ?_
          refine r_lload C dX5_cutAll_190 rfl ?_
          refine r_lmul C dX5_cutAll_192 ?_
          refine r_aload_n C dX5_cutAll_193 rfl rfl ?_
          refine r_getA C fl_X5_14 hk dX5_cutAll_194 ?_
          refine r_iload_n C dX5_cutAll_197 rfl rfl ?_
          refine r_iald C (rg_641 hk) rfl dX5_cutAll_198 fun h7 => ?_
          refine r_i2l C dX5_cutAll_199 ?_
          refine r_ladd C dX5_cutAll_200 ?_
          refine r_ldc2 (v := 48) C dX5_cutAll_201 q1799 ?_
          refine r_lsub C dX5_cutAll_204 ?_
          refine r_goto (tgt := 210) C dX5_cutAll_205 (by decide) ?_
          refine r_ltL fun v8 => ?_
          refine r_lstore (ls' := [some (.ref th), some (.int x1), some (.int x2), none, some (.int x4), some (.long v8), none]) C dX5_cutAll_210 (Nat.le_of_ble_eq_true rfl) rfl rfl ?_
          refine r_iinc (v := 1) (ls' := [some (.ref th), some (.int x1), some (.int (x2 + (1 : Int32))), none, some (.int x4), some (.long v8), none]) C dX5_cutAll_212 rfl rfl (Nat.le_of_ble_eq_true rfl) rfl rfl ?_
          refine r_goto (tgt := 159) C dX5_cutAll_215 (by decide) ?_
          exact ih x1 (x2 + (1 : Int32)) x4 v8 P
def fX5_cutAll_b148 (th : Nat) (k17 : Int32 → Int32 → mm_P → Option mm_P) (x1 : Int32) (x2 : Int32) (x5 : Int64) (s1 : Int32) (s2 : Int32) (P : mm_P) : Option mm_P :=
  mm_gd (mm_in s1 1002) <|
  mm_lt (sA P 644 th s1.toNatClampNeg s2) fun P2 =>
  fX5_cutAll_b265 th k17 x1 x2 x5 P2
set_option maxHeartbeats 4000000 in
theorem wfX5_cutAll_b148 {E : mm_E} (C : mm_Cx E RX5 cX5_cutAll 7 none 2 40) {K : mm_K} {th : Nat} (hk : K.1 th = 5) {nx sl : Nat} {k17 : Int32 → Int32 → mm_P → Option mm_P} (hk17 : ∀ (x1 : Int32) (x2 : Int32) (P : mm_P), mm_V E (mm_wwV K nx sl) 17 [some (.ref th), some (.int x1), some (.int x2), none, none, none, none] [] K P nx sl (k17 x1 x2 P)) (x1 : Int32) (x2 : Int32) (x5 : Int64) (s1 : Int32) (s2 : Int32) (P : mm_P) : mm_V E (mm_wwV K nx sl) 148 [some (.ref th), some (.int x1), some (.int x2), none, none, some (.long x5), none] [.int s2, .int s1, .ref (th + 2)] K P nx sl (fX5_cutAll_b148 th k17 x1 x2 x5 s1 s2 P) := by
  unfold fX5_cutAll_b148
  refine r_iast C (rg_644 hk) (mm_ro_of (k := 5) hk rfl) rfl dX5_cutAll_148 fun h1 => ?_
  refine r_ltP fun P2 => ?_
  refine r_goto (tgt := 265) C dX5_cutAll_149 (by decide) ?_
  exact wfX5_cutAll_b265 C hk hk17 x1 x2 x5 P2
def fX5_cutAll_b129 (th : Nat) (k17 : Int32 → Int32 → mm_P → Option mm_P) (x1 : Int32) (x2 : Int32) (x4 : Int32) (x5 : Int64) (P : mm_P) : Option mm_P :=
  if (x2 - x4) ≤ (8 : Int32) then
  (fX5_cutAll_b148 th k17 x1 x2 x5 x1 (1 : Int32) P)
  else
  (fX5_cutAll_b148 th k17 x1 x2 x5 x1 (4 : Int32) P)
set_option maxHeartbeats 4000000 in
theorem wfX5_cutAll_b129 {E : mm_E} (C : mm_Cx E RX5 cX5_cutAll 7 none 2 40) {K : mm_K} {th : Nat} (hk : K.1 th = 5) {nx sl : Nat} {k17 : Int32 → Int32 → mm_P → Option mm_P} (hk17 : ∀ (x1 : Int32) (x2 : Int32) (P : mm_P), mm_V E (mm_wwV K nx sl) 17 [some (.ref th), some (.int x1), some (.int x2), none, none, none, none] [] K P nx sl (k17 x1 x2 P)) (x1 : Int32) (x2 : Int32) (x4 : Int32) (x5 : Int64) (P : mm_P) : mm_V E (mm_wwV K nx sl) 129 [some (.ref th), some (.int x1), some (.int x2), none, some (.int x4), some (.long x5), none] [] K P nx sl (fX5_cutAll_b129 th k17 x1 x2 x4 x5 P) := by
  unfold fX5_cutAll_b129
  refine r_aload_n C dX5_cutAll_129 rfl rfl ?_
  refine r_getA C fl_X5_24 hk dX5_cutAll_130 ?_
  refine r_iload_n C dX5_cutAll_133 rfl rfl ?_
  refine r_iload_n C dX5_cutAll_134 rfl rfl ?_
  refine r_iload C dX5_cutAll_135 rfl ?_
  refine r_isub C dX5_cutAll_137 ?_
  refine r_bipush (v := 8) C dX5_cutAll_138 rfl ?_
  refine r_icmple (tgt := 147) C dX5_cutAll_140 (by decide) (fun h1 => ?_) (fun h1 => ?_)
  · refine r_iconst (v := 1) C dX5_cutAll_147 rfl ?_
    refine r_mask [true, true, true, true, false, true, true] (ls' := [some (.ref th), some (.int x1), some (.int x2), none, none, some (.long x5), none]) rfl ?_
    exact wfX5_cutAll_b148 C hk hk17 x1 x2 x5 x1 (1 : Int32) P
  · refine r_iconst (v := 4) C dX5_cutAll_143 rfl ?_
    refine r_goto (tgt := 148) C dX5_cutAll_144 (by decide) ?_
    refine r_mask [true, true, true, true, false, true, true] (ls' := [some (.ref th), some (.int x1), some (.int x2), none, none, some (.long x5), none]) rfl ?_
    exact wfX5_cutAll_b148 C hk hk17 x1 x2 x5 x1 (4 : Int32) P
def fX5_cutAll_b70 (th : Nat) (k17 : Int32 → Int32 → mm_P → Option mm_P) : Nat → Int32 → Int32 → Int32 → Int64 → mm_P → Option mm_P
  | 0, _, _, _, _, _ => none
  | n + 1, x1, x2, x4, x5, P =>
  if (gI P 643 th) ≤ x2 then
  (fX5_cutAll_b129 th k17 x1 x2 x4 x5 P)
  else
  (mm_gd (mm_in x2 1000) <|
  mm_bd (fX5_isLetter (gA P 641 th x2.toNatClampNeg)) fun r3 =>
  if r3 = 0 then
  (fX5_cutAll_b129 th k17 x1 x2 x4 x5 P)
  else
  (if (8 : Int32) ≤ (x2 - x4) then
  (fX5_cutAll_b70 th k17 n x1 (x2 + (1 : Int32)) x4 x5 P)
  else
  (mm_gd (mm_in x2 1000) <|
  mm_bd (fX5_rank (gA P 641 th x2.toNatClampNeg)) fun r8 =>
  mm_lt (((37 : Int64) * x5) + r8.toInt64) fun v10 =>
  fX5_cutAll_b70 th k17 n x1 (x2 + (1 : Int32)) x4 v10 P)))
set_option maxHeartbeats 4000000 in
theorem wfX5_cutAll_b70 {E : mm_E} (C : mm_Cx E RX5 cX5_cutAll 7 none 2 40) {K : mm_K} {th : Nat} (hk : K.1 th = 5) {nx sl : Nat} {k17 : Int32 → Int32 → mm_P → Option mm_P} (hk17 : ∀ (x1 : Int32) (x2 : Int32) (P : mm_P), mm_V E (mm_wwV K nx sl) 17 [some (.ref th), some (.int x1), some (.int x2), none, none, none, none] [] K P nx sl (k17 x1 x2 P)) : ∀ (n : Nat), ∀ (x1 : Int32) (x2 : Int32) (x4 : Int32) (x5 : Int64) (P : mm_P), mm_V E (mm_wwV K nx sl) 70 [some (.ref th), some (.int x1), some (.int x2), none, some (.int x4), some (.long x5), none] [] K P nx sl (fX5_cutAll_b70 th k17 n x1 x2 x4 x5 P) := by
  intro n
  induction n with
  | zero => intro x1 x2 x4 x5 P; exact r_none
  | succ n ih =>
    intro x1 x2 x4 x5 P
    rw [fX5_cutAll_b70]
    refine r_iload_n C dX5_cutAll_70 rfl rfl ?_
    refine r_aload_n C dX5_cutAll_71 rfl rfl ?_
    refine r_getI (code := 643) C fl_X5_155 hk rfl dX5_cutAll_72 ?_
    refine r_icmpge (tgt := 129) C dX5_cutAll_75 (by decide) (fun h1 => ?_) (fun h1 => ?_)
    · exact wfX5_cutAll_b129 C hk hk17 x1 x2 x4 x5 P
    · refine r_aload_n C dX5_cutAll_78 rfl rfl ?_
      refine r_getA C fl_X5_14 hk dX5_cutAll_79 ?_
      refine r_iload_n C dX5_cutAll_82 rfl rfl ?_
      refine r_iald C (rg_641 hk) rfl dX5_cutAll_83 fun h2 => ?_
      refine r_bd fun r3 h4 => ?_
      refine r_callS (As := [.int (gA P 641 th x2.toNatClampNeg)]) (st := []) C (mc_X5_isLetter h4) cv_X5_151  rfl (Nat.le_of_ble_eq_true rfl) (Nat.le_of_ble_eq_true rfl) rfl (Nat.le_of_ble_eq_true rfl) dX5_cutAll_84 ?_
      refine r_ifeq (tgt := 129) C dX5_cutAll_87 (by decide) (fun h5 => ?_) (fun h5 => ?_)
      · exact wfX5_cutAll_b129 C hk hk17 x1 x2 x4 x5 P
      · refine r_iload_n C dX5_cutAll_90 rfl rfl ?_
        refine r_iload C dX5_cutAll_91 rfl ?_
        refine r_isub C dX5_cutAll_93 ?_
        refine r_bipush (v := 8) C dX5_cutAll_94 rfl ?_
        refine r_icmpge (tgt := 119) C dX5_cutAll_96 (by decide) (fun h6 => ?_) (fun h6 => ?_)
        · refine r_lload C dX5_cutAll_119 rfl ?_
          refine r_lstore (ls' := [some (.ref th), some (.int x1), some (.int x2), none, some (.int x4), some (.long x5), none]) C dX5_cutAll_121 (Nat.le_of_ble_eq_true rfl) rfl rfl ?_
          refine r_iinc (v := 1) (ls' := [some (.ref th), some (.int x1), some (.int (x2 + (1 : Int32))), none, some (.int x4), some (.long x5), none]) C dX5_cutAll_123 rfl rfl (Nat.le_of_ble_eq_true rfl) rfl rfl ?_
          refine r_goto (tgt := 70) C dX5_cutAll_126 (by decide) ?_
          exact ih x1 (x2 + (1 : Int32)) x4 x5 P
        · refine r_ldc2 (v := 37) C dX5_cutAll_99 q1791 ?_
          refine r_lload C dX5_cutAll_102 rfl ?_
          refine r_lmul C dX5_cutAll_104 ?_
          refine r_aload_n C dX5_cutAll_105 rfl rfl ?_
          refine r_getA C fl_X5_14 hk dX5_cutAll_106 ?_
          refine r_iload_n C dX5_cutAll_109 rfl rfl ?_
          refine r_iald C (rg_641 hk) rfl dX5_cutAll_110 fun h7 => ?_
          refine r_bd fun r8 h9 => ?_
          refine r_callS (As := [.int (gA P 641 th x2.toNatClampNeg)]) (st := [.long ((37 : Int64) * x5)]) C (mc_X5_rank h9) cv_X5_160  rfl (Nat.le_of_ble_eq_true rfl) (Nat.le_of_ble_eq_true rfl) rfl (Nat.le_of_ble_eq_true rfl) dX5_cutAll_111 ?_
          refine r_i2l C dX5_cutAll_114 ?_
          refine r_ladd C dX5_cutAll_115 ?_
          refine r_goto (tgt := 121) C dX5_cutAll_116 (by decide) ?_
          refine r_ltL fun v10 => ?_
          refine r_lstore (ls' := [some (.ref th), some (.int x1), some (.int x2), none, some (.int x4), some (.long v10), none]) C dX5_cutAll_121 (Nat.le_of_ble_eq_true rfl) rfl rfl ?_
          refine r_iinc (v := 1) (ls' := [some (.ref th), some (.int x1), some (.int (x2 + (1 : Int32))), none, some (.int x4), some (.long v10), none]) C dX5_cutAll_123 rfl rfl (Nat.le_of_ble_eq_true rfl) rfl rfl ?_
          refine r_goto (tgt := 70) C dX5_cutAll_126 (by decide) ?_
          exact ih x1 (x2 + (1 : Int32)) x4 v10 P
def fX5_cutAll_b17 (th : Nat)  : Nat → Int32 → Int32 → mm_P → Option mm_P
  | 0, _, _, _ => none
  | n + 1, x1, x2, P =>
  if (gI P 643 th) ≤ x2 then
  (mm_gd (mm_in x1 1002) <|
  mm_lt (sA P 644 th x1.toNatClampNeg (0 : Int32)) fun P3 =>
  mm_gd (mm_in x1 1002) <|
  mm_lt (sA P3 645 th x1.toNatClampNeg (gI P3 643 th)) fun P5 =>
  mm_lt (sI P5 647 th (0 : Int32)) fun P6 =>
  mm_lt (sI P6 648 th (0 : Int32)) fun P7 =>
  some P7)
  else
  (mm_gd (mm_in x2 1000) <|
  mm_lt (gA P 641 th x2.toNatClampNeg) fun v9 =>
  if v9 = (10 : Int32) then
  (fX5_cutAll_b17 th n x1 (x2 + (1 : Int32)) P)
  else
  (if v9 ≠ (32 : Int32) then
  (mm_gd (mm_in x1 1002) <|
  mm_lt (sA P 645 th x1.toNatClampNeg x2) fun P13 =>
  mm_bd (fX5_isLetter v9) fun r14 =>
  if r14 = 0 then
  (mm_bd (fX5_isDigit v9) fun r17 =>
  if r17 = 0 then
  (mm_bd (fX5_isSignOf v9) fun r20 =>
  if r20 = 0 then
  (fX5_cutAll_b261 th (fX5_cutAll_b17 th n) x1 x2 v9.toInt64 x1 (4 : Int32) P13)
  else
  (fX5_cutAll_b261 th (fX5_cutAll_b17 th n) x1 x2 v9.toInt64 x1 (3 : Int32) P13))
  else
  (fX5_cutAll_b159 th (fX5_cutAll_b17 th n) mm_NF x1 x2 x2 (0 : Int64) P13))
  else
  (fX5_cutAll_b70 th (fX5_cutAll_b17 th n) mm_NF x1 x2 x2 (0 : Int64) P13))
  else
  (fX5_cutAll_b17 th n x1 (x2 + (1 : Int32)) P)))
set_option maxHeartbeats 4000000 in
theorem wfX5_cutAll_b17 {E : mm_E} (C : mm_Cx E RX5 cX5_cutAll 7 none 2 40) {K : mm_K} {th : Nat} (hk : K.1 th = 5) {nx sl : Nat} : ∀ (n : Nat), ∀ (x1 : Int32) (x2 : Int32) (P : mm_P), mm_V E (mm_wwV K nx sl) 17 [some (.ref th), some (.int x1), some (.int x2), none, none, none, none] [] K P nx sl (fX5_cutAll_b17 th n x1 x2 P) := by
  intro n
  induction n with
  | zero => intro x1 x2 P; exact r_none
  | succ n ih =>
    intro x1 x2 P
    rw [fX5_cutAll_b17]
    refine r_iload_n C dX5_cutAll_17 rfl rfl ?_
    refine r_aload_n C dX5_cutAll_18 rfl rfl ?_
    refine r_getI (code := 643) C fl_X5_155 hk rfl dX5_cutAll_19 ?_
    refine r_icmpge (tgt := 279) C dX5_cutAll_22 (by decide) (fun h1 => ?_) (fun h1 => ?_)
    · refine r_aload_n C dX5_cutAll_279 rfl rfl ?_
      refine r_getA C fl_X5_24 hk dX5_cutAll_280 ?_
      refine r_iload_n C dX5_cutAll_283 rfl rfl ?_
      refine r_iconst (v := 0) C dX5_cutAll_284 rfl ?_
      refine r_iast C (rg_644 hk) (mm_ro_of (k := 5) hk rfl) rfl dX5_cutAll_285 fun h2 => ?_
      refine r_ltP fun P3 => ?_
      refine r_aload_n C dX5_cutAll_286 rfl rfl ?_
      refine r_getA C fl_X5_27 hk dX5_cutAll_287 ?_
      refine r_iload_n C dX5_cutAll_290 rfl rfl ?_
      refine r_aload_n C dX5_cutAll_291 rfl rfl ?_
      refine r_getI (code := 643) C fl_X5_155 hk rfl dX5_cutAll_292 ?_
      refine r_iast C (rg_645 hk) (mm_ro_of (k := 5) hk rfl) rfl dX5_cutAll_295 fun h4 => ?_
      refine r_ltP fun P5 => ?_
      refine r_aload_n C dX5_cutAll_296 rfl rfl ?_
      refine r_iconst (v := 0) C dX5_cutAll_297 rfl ?_
      refine r_putI (code := 647) C fl_X5_174 hk rfl rfl dX5_cutAll_298 ?_
      refine r_ltP fun P6 => ?_
      refine r_aload_n C dX5_cutAll_301 rfl rfl ?_
      refine r_iconst (v := 0) C dX5_cutAll_302 rfl ?_
      refine r_putI (code := 648) C fl_X5_177 hk rfl rfl dX5_cutAll_303 ?_
      refine r_ltP fun P7 => ?_
      exact r_vret C dX5_cutAll_306 rfl
    · refine r_aload_n C dX5_cutAll_25 rfl rfl ?_
      refine r_getA C fl_X5_14 hk dX5_cutAll_26 ?_
      refine r_iload_n C dX5_cutAll_29 rfl rfl ?_
      refine r_iald C (rg_641 hk) rfl dX5_cutAll_30 fun h8 => ?_
      refine r_ltI fun v9 => ?_
      refine r_istore_n (ls' := [some (.ref th), some (.int x1), some (.int x2), some (.int v9), none, none, none]) C dX5_cutAll_31 rfl (Nat.le_of_ble_eq_true rfl) rfl rfl ?_
      refine r_iload_n C dX5_cutAll_32 rfl rfl ?_
      refine r_bipush (v := 10) C dX5_cutAll_33 rfl ?_
      refine r_icmpeq (tgt := 44) C dX5_cutAll_35 (by decide) (fun h10 => ?_) (fun h10 => ?_)
      · refine r_iinc (v := 1) (ls' := [some (.ref th), some (.int x1), some (.int (x2 + (1 : Int32))), some (.int v9), none, none, none]) C dX5_cutAll_44 rfl rfl (Nat.le_of_ble_eq_true rfl) rfl rfl ?_
        refine r_goto (tgt := 17) C dX5_cutAll_47 (by decide) ?_
        refine r_mask [true, true, true, false, true, true, true] (ls' := [some (.ref th), some (.int x1), some (.int (x2 + (1 : Int32))), none, none, none, none]) rfl ?_
        exact ih x1 (x2 + (1 : Int32)) P
      · refine r_iload_n C dX5_cutAll_38 rfl rfl ?_
        refine r_bipush (v := 32) C dX5_cutAll_39 rfl ?_
        refine r_icmpne (tgt := 50) C dX5_cutAll_41 (by decide) (fun h11 => ?_) (fun h11 => ?_)
        · refine r_iload_n C dX5_cutAll_50 rfl rfl ?_
          refine r_istore (ls' := [some (.ref th), some (.int x1), some (.int x2), some (.int v9), some (.int x2), none, none]) C dX5_cutAll_51 (Nat.le_of_ble_eq_true rfl) rfl rfl ?_
          refine r_lconst (v := 0) C dX5_cutAll_53 rfl ?_
          refine r_lstore (ls' := [some (.ref th), some (.int x1), some (.int x2), some (.int v9), some (.int x2), some (.long (0 : Int64)), none]) C dX5_cutAll_54 (Nat.le_of_ble_eq_true rfl) rfl rfl ?_
          refine r_aload_n C dX5_cutAll_56 rfl rfl ?_
          refine r_getA C fl_X5_27 hk dX5_cutAll_57 ?_
          refine r_iload_n C dX5_cutAll_60 rfl rfl ?_
          refine r_iload_n C dX5_cutAll_61 rfl rfl ?_
          refine r_iast C (rg_645 hk) (mm_ro_of (k := 5) hk rfl) rfl dX5_cutAll_62 fun h12 => ?_
          refine r_ltP fun P13 => ?_
          refine r_iload_n C dX5_cutAll_63 rfl rfl ?_
          refine r_bd fun r14 h15 => ?_
          refine r_callS (As := [.int v9]) (st := []) C (mc_X5_isLetter h15) cv_X5_151  rfl (Nat.le_of_ble_eq_true rfl) (Nat.le_of_ble_eq_true rfl) rfl (Nat.le_of_ble_eq_true rfl) dX5_cutAll_64 ?_
          refine r_ifeq (tgt := 152) C dX5_cutAll_67 (by decide) (fun h16 => ?_) (fun h16 => ?_)
          · refine r_iload_n C dX5_cutAll_152 rfl rfl ?_
            refine r_bd fun r17 h18 => ?_
            refine r_callS (As := [.int v9]) (st := []) C (mc_X5_isDigit h18) cv_X5_164  rfl (Nat.le_of_ble_eq_true rfl) (Nat.le_of_ble_eq_true rfl) rfl (Nat.le_of_ble_eq_true rfl) dX5_cutAll_153 ?_
            refine r_ifeq (tgt := 240) C dX5_cutAll_156 (by decide) (fun h19 => ?_) (fun h19 => ?_)
            · refine r_iload_n C dX5_cutAll_240 rfl rfl ?_
              refine r_i2l C dX5_cutAll_241 ?_
              refine r_lstore (ls' := [some (.ref th), some (.int x1), some (.int x2), some (.int v9), some (.int x2), some (.long v9.toInt64), none]) C dX5_cutAll_242 (Nat.le_of_ble_eq_true rfl) rfl rfl ?_
              refine r_aload_n C dX5_cutAll_244 rfl rfl ?_
              refine r_getA C fl_X5_24 hk dX5_cutAll_245 ?_
              refine r_iload_n C dX5_cutAll_248 rfl rfl ?_
              refine r_iload_n C dX5_cutAll_249 rfl rfl ?_
              refine r_bd fun r20 h21 => ?_
              refine r_callS (As := [.int v9]) (st := [.int x1, .ref (th + 2)]) C (mc_X5_isSignOf h21) cv_X5_171  rfl (Nat.le_of_ble_eq_true rfl) (Nat.le_of_ble_eq_true rfl) rfl (Nat.le_of_ble_eq_true rfl) dX5_cutAll_250 ?_
              refine r_ifeq (tgt := 260) C dX5_cutAll_253 (by decide) (fun h22 => ?_) (fun h22 => ?_)
              · refine r_iconst (v := 4) C dX5_cutAll_260 rfl ?_
                refine r_mask [true, true, true, false, false, true, true] (ls' := [some (.ref th), some (.int x1), some (.int x2), none, none, some (.long v9.toInt64), none]) rfl ?_
                exact wfX5_cutAll_b261 C hk ih x1 x2 v9.toInt64 x1 (4 : Int32) P13
              · refine r_iconst (v := 3) C dX5_cutAll_256 rfl ?_
                refine r_goto (tgt := 261) C dX5_cutAll_257 (by decide) ?_
                refine r_mask [true, true, true, false, false, true, true] (ls' := [some (.ref th), some (.int x1), some (.int x2), none, none, some (.long v9.toInt64), none]) rfl ?_
                exact wfX5_cutAll_b261 C hk ih x1 x2 v9.toInt64 x1 (3 : Int32) P13
            · refine r_mask [true, true, true, false, true, true, true] (ls' := [some (.ref th), some (.int x1), some (.int x2), none, some (.int x2), some (.long (0 : Int64)), none]) rfl ?_
              exact wfX5_cutAll_b159 C hk ih mm_NF x1 x2 x2 (0 : Int64) P13
          · refine r_mask [true, true, true, false, true, true, true] (ls' := [some (.ref th), some (.int x1), some (.int x2), none, some (.int x2), some (.long (0 : Int64)), none]) rfl ?_
            exact wfX5_cutAll_b70 C hk ih mm_NF x1 x2 x2 (0 : Int64) P13
        · refine r_iinc (v := 1) (ls' := [some (.ref th), some (.int x1), some (.int (x2 + (1 : Int32))), some (.int v9), none, none, none]) C dX5_cutAll_44 rfl rfl (Nat.le_of_ble_eq_true rfl) rfl rfl ?_
          refine r_goto (tgt := 17) C dX5_cutAll_47 (by decide) ?_
          refine r_mask [true, true, true, false, true, true, true] (ls' := [some (.ref th), some (.int x1), some (.int (x2 + (1 : Int32))), none, none, none, none]) rfl ?_
          exact ih x1 (x2 + (1 : Int32)) P
def fX5_cutAll (th : Nat)  (P : mm_P) : Option mm_P :=
  mm_lt (sI P 643 th (gI P 642 th)) fun P1 =>
  mm_lt (sI P1 642 th (0 : Int32)) fun P2 =>
  fX5_cutAll_b17 th mm_NF (0 : Int32) (0 : Int32) P2
set_option maxHeartbeats 4000000 in
theorem mc_X5_cutAll {l : Launch} {K : mm_K} {P : mm_P} {th : Nat}  {nx sl : Nat} {r : mm_P} (hk : K.1 th = 5) (h : fX5_cutAll th P = some r) : mm_C l yX5_cutAll (ws_ yX5_cutAll cX5_cutAll 7 none) 2 40 [.ref th] K P nx sl (mm_wwV K nx sl r) :=
  mm_start (ls := [some (.ref th), none, none, none, none, none, none]) h (by decide) (Nat.le_of_ble_eq_true rfl) rfl (Nat.le_refl _) (Nat.le_refl _) rfl fun E hl9 _ _ _ C => by
  have C : mm_Cx E RX5 cX5_cutAll 7 none 2 40 := C
  unfold fX5_cutAll
  refine r_aload_n C dX5_cutAll_0 rfl rfl ?_
  refine r_aload_n C dX5_cutAll_1 rfl rfl ?_
  refine r_getI (code := 642) C fl_X5_11 hk rfl dX5_cutAll_2 ?_
  refine r_putI (code := 643) C fl_X5_155 hk rfl rfl dX5_cutAll_5 ?_
  refine r_ltP fun P1 => ?_
  refine r_aload_n C dX5_cutAll_8 rfl rfl ?_
  refine r_iconst (v := 0) C dX5_cutAll_9 rfl ?_
  refine r_putI (code := 642) C fl_X5_11 hk rfl rfl dX5_cutAll_10 ?_
  refine r_ltP fun P2 => ?_
  refine r_iconst (v := 0) C dX5_cutAll_13 rfl ?_
  refine r_istore_n (ls' := [some (.ref th), some (.int (0 : Int32)), none, none, none, none, none]) C dX5_cutAll_14 rfl (Nat.le_of_ble_eq_true rfl) rfl rfl ?_
  refine r_iconst (v := 0) C dX5_cutAll_15 rfl ?_
  refine r_istore_n (ls' := [some (.ref th), some (.int (0 : Int32)), some (.int (0 : Int32)), none, none, none, none]) C dX5_cutAll_16 rfl (Nat.le_of_ble_eq_true rfl) rfl rfl ?_
  exact wfX5_cutAll_b17 C hk mm_NF (0 : Int32) (0 : Int32) P2
/-! isWord -/
def fX5_isWord (th : Nat) (P : mm_P) (x1 : Int32) : Option Int32 :=
  if (gI P 648 th) ≠ 0 then
  (some ((0 : Int32)))
  else
  (mm_gd (mm_in (gI P 647 th) 1002) <|
  if (gA P 644 th (gI P 647 th).toNatClampNeg) ≠ (1 : Int32) then
  (some ((0 : Int32)))
  else
  (mm_gd (mm_in (gI P 647 th) 1002) <|
  mm_gd (mm_in x1 26) <|
  if (lg_cmp (gL P 646 th (gI P 647 th).toNatClampNeg) (gL P 649 th x1.toNatClampNeg)) ≠ 0 then
  (some ((0 : Int32)))
  else
  (some ((1 : Int32)))))
set_option maxHeartbeats 4000000 in
theorem mc_X5_isWord {l : Launch} {K : mm_K} {P : mm_P} {th : Nat} {x1 : Int32} {nx sl : Nat} {r : Int32} (hk : K.1 th = 5) (h : fX5_isWord th P x1 = some r) : mm_C l yX5_isWord (ws_ yX5_isWord cX5_isWord 2 (some .boolean)) 0 0 [.ref th, .int x1] K P nx sl (mm_wrI K P nx sl r) :=
  mm_start (ls := [some (.ref th), some (.int x1)]) h (by decide) (Nat.le_of_ble_eq_true rfl) rfl (Nat.le_refl _) (Nat.le_refl _) rfl fun E hl9 _ _ _ C => by
  have C : mm_Cx E RX5 cX5_isWord 2 (some .boolean) 0 0 := C
  unfold fX5_isWord
  refine r_aload_n C dX5_isWord_0 rfl rfl ?_
  refine r_getI (code := 648) C fl_X5_177 hk rfl dX5_isWord_1 ?_
  refine r_ifne (tgt := 43) C dX5_isWord_4 (by decide) (fun h1 => ?_) (fun h1 => ?_)
  · refine r_iconst (v := 0) C dX5_isWord_43 rfl ?_
    exact r_zret C dX5_isWord_44 rfl rfl
  · refine r_aload_n C dX5_isWord_7 rfl rfl ?_
    refine r_getA C fl_X5_24 hk dX5_isWord_8 ?_
    refine r_aload_n C dX5_isWord_11 rfl rfl ?_
    refine r_getI (code := 647) C fl_X5_174 hk rfl dX5_isWord_12 ?_
    refine r_iald C (rg_644 hk) rfl dX5_isWord_15 fun h2 => ?_
    refine r_iconst (v := 1) C dX5_isWord_16 rfl ?_
    refine r_icmpne (tgt := 43) C dX5_isWord_17 (by decide) (fun h3 => ?_) (fun h3 => ?_)
    · refine r_iconst (v := 0) C dX5_isWord_43 rfl ?_
      exact r_zret C dX5_isWord_44 rfl rfl
    · refine r_aload_n C dX5_isWord_20 rfl rfl ?_
      refine r_getA C fl_X5_30 hk dX5_isWord_21 ?_
      refine r_aload_n C dX5_isWord_24 rfl rfl ?_
      refine r_getI (code := 647) C fl_X5_174 hk rfl dX5_isWord_25 ?_
      refine r_lald C (rg_646 hk) rfl dX5_isWord_28 fun h4 => ?_
      refine r_aload_n C dX5_isWord_29 rfl rfl ?_
      refine r_getA C fl_X5_86 hk dX5_isWord_30 ?_
      refine r_iload_n C dX5_isWord_33 rfl rfl ?_
      refine r_lald C (rg_649 hk) rfl dX5_isWord_34 fun h5 => ?_
      refine r_lcmp C dX5_isWord_35 ?_
      refine r_ifne (tgt := 43) C dX5_isWord_36 (by decide) (fun h6 => ?_) (fun h6 => ?_)
      · refine r_iconst (v := 0) C dX5_isWord_43 rfl ?_
        exact r_zret C dX5_isWord_44 rfl rfl
      · refine r_iconst (v := 1) C dX5_isWord_39 rfl ?_
        refine r_goto (tgt := 44) C dX5_isWord_40 (by decide) ?_
        exact r_zret C dX5_isWord_44 rfl rfl
/-! wrong -/
def fX5_wrong (th : Nat) (x1 : Int32) (P : mm_P) : Option mm_P :=
  if (gI P 648 th) ≠ 0 then
  (some P)
  else
  (mm_gd (mm_in (gI P 647 th) 1002) <|
  mm_lt (sI P 648 th (x1 + ((16 : Int32) * (gA P 645 th (gI P 647 th).toNatClampNeg)))) fun P3 =>
  some P3)
set_option maxHeartbeats 4000000 in
theorem mc_X5_wrong {l : Launch} {K : mm_K} {P : mm_P} {th : Nat} {x1 : Int32} {nx sl : Nat} {r : mm_P} (hk : K.1 th = 5) (h : fX5_wrong th x1 P = some r) : mm_C l yX5_wrong (ws_ yX5_wrong cX5_wrong 2 none) 0 0 [.ref th, .int x1] K P nx sl (mm_wwV K nx sl r) :=
  mm_start (ls := [some (.ref th), some (.int x1)]) h (by decide) (Nat.le_of_ble_eq_true rfl) rfl (Nat.le_refl _) (Nat.le_refl _) rfl fun E hl9 _ _ _ C => by
  have C : mm_Cx E RX5 cX5_wrong 2 none 0 0 := C
  unfold fX5_wrong
  refine r_aload_n C dX5_wrong_0 rfl rfl ?_
  refine r_getI (code := 648) C fl_X5_177 hk rfl dX5_wrong_1 ?_
  refine r_ifne (tgt := 25) C dX5_wrong_4 (by decide) (fun h1 => ?_) (fun h1 => ?_)
  · exact r_vret C dX5_wrong_25 rfl
  · refine r_aload_n C dX5_wrong_7 rfl rfl ?_
    refine r_iload_n C dX5_wrong_8 rfl rfl ?_
    refine r_bipush (v := 16) C dX5_wrong_9 rfl ?_
    refine r_aload_n C dX5_wrong_11 rfl rfl ?_
    refine r_getA C fl_X5_27 hk dX5_wrong_12 ?_
    refine r_aload_n C dX5_wrong_15 rfl rfl ?_
    refine r_getI (code := 647) C fl_X5_174 hk rfl dX5_wrong_16 ?_
    refine r_iald C (rg_645 hk) rfl dX5_wrong_19 fun h2 => ?_
    refine r_imul C dX5_wrong_20 ?_
    refine r_iadd C dX5_wrong_21 ?_
    refine r_putI (code := 648) C fl_X5_177 hk rfl rfl dX5_wrong_22 ?_
    refine r_ltP fun P3 => ?_
    exact r_vret C dX5_wrong_25 rfl
/-! wordHere -/
def fX5_wordHere_b5 (th : Nat) (P : mm_P)  : Nat → Int32 → Int32 → Int32 → Int32 → Option Int32
  | 0, _, _, _, _ => none
  | n + 1, x1, x2, x3, x4 =>
  if x2 ≤ x4 then
  (some (x3))
  else
  (mm_bd (fX5_isWord th P (x1 + x4)) fun r2 =>
  if r2 = 0 then
  (fX5_wordHere_b5 th P n x1 x2 x3 (x4 + (1 : Int32)))
  else
  (fX5_wordHere_b5 th P n x1 x2 x4 (x4 + (1 : Int32))))
set_option maxHeartbeats 4000000 in
theorem wfX5_wordHere_b5 {E : mm_E} (C : mm_Cx E RX5 cX5_wordHere 5 (some .int) 1 21) {K : mm_K} {th : Nat} (hk : K.1 th = 5) {P : mm_P} {nx sl : Nat} : ∀ (n : Nat), ∀ (x1 : Int32) (x2 : Int32) (x3 : Int32) (x4 : Int32), mm_V E (mm_wrI K P nx sl) 5 [some (.ref th), some (.int x1), some (.int x2), some (.int x3), some (.int x4)] [] K P nx sl (fX5_wordHere_b5 th P n x1 x2 x3 x4) := by
  intro n
  induction n with
  | zero => intro x1 x2 x3 x4; exact r_none
  | succ n ih =>
    intro x1 x2 x3 x4
    rw [fX5_wordHere_b5]
    refine r_iload C dX5_wordHere_5 rfl ?_
    refine r_iload_n C dX5_wordHere_7 rfl rfl ?_
    refine r_icmpge (tgt := 35) C dX5_wordHere_8 (by decide) (fun h1 => ?_) (fun h1 => ?_)
    · refine r_iload_n C dX5_wordHere_35 rfl rfl ?_
      exact r_iret C dX5_wordHere_36 rfl
    · refine r_aload_n C dX5_wordHere_11 rfl rfl ?_
      refine r_iload_n C dX5_wordHere_12 rfl rfl ?_
      refine r_iload C dX5_wordHere_13 rfl ?_
      refine r_iadd C dX5_wordHere_15 ?_
      refine r_bd fun r2 h3 => ?_
      refine r_callV (As := [.int (x1 + x4)]) (st := []) C (mc_X5_isWord hk h3) cv_X5_186 hk rfl (Nat.le_of_ble_eq_true rfl) (Nat.le_of_ble_eq_true rfl) rfl (Nat.le_of_ble_eq_true rfl) dX5_wordHere_16 ?_
      refine r_ifeq (tgt := 27) C dX5_wordHere_19 (by decide) (fun h4 => ?_) (fun h4 => ?_)
      · refine r_iload_n C dX5_wordHere_27 rfl rfl ?_
        refine r_istore_n (ls' := [some (.ref th), some (.int x1), some (.int x2), some (.int x3), some (.int x4)]) C dX5_wordHere_28 rfl (Nat.le_of_ble_eq_true rfl) rfl rfl ?_
        refine r_iinc (v := 1) (ls' := [some (.ref th), some (.int x1), some (.int x2), some (.int x3), some (.int (x4 + (1 : Int32)))]) C dX5_wordHere_29 rfl rfl (Nat.le_of_ble_eq_true rfl) rfl rfl ?_
        refine r_goto (tgt := 5) C dX5_wordHere_32 (by decide) ?_
        exact ih x1 x2 x3 (x4 + (1 : Int32))
      · refine r_iload C dX5_wordHere_22 rfl ?_
        refine r_goto (tgt := 28) C dX5_wordHere_24 (by decide) ?_
        refine r_istore_n (ls' := [some (.ref th), some (.int x1), some (.int x2), some (.int x4), some (.int x4)]) C dX5_wordHere_28 rfl (Nat.le_of_ble_eq_true rfl) rfl rfl ?_
        refine r_iinc (v := 1) (ls' := [some (.ref th), some (.int x1), some (.int x2), some (.int x4), some (.int (x4 + (1 : Int32)))]) C dX5_wordHere_29 rfl rfl (Nat.le_of_ble_eq_true rfl) rfl rfl ?_
        refine r_goto (tgt := 5) C dX5_wordHere_32 (by decide) ?_
        exact ih x1 x2 x4 (x4 + (1 : Int32))
def fX5_wordHere (th : Nat) (P : mm_P) (x1 : Int32) (x2 : Int32) : Option Int32 :=
  fX5_wordHere_b5 th P mm_NF x1 x2 (-1 : Int32) (0 : Int32)
set_option maxHeartbeats 4000000 in
theorem mc_X5_wordHere {l : Launch} {K : mm_K} {P : mm_P} {th : Nat} {x1 : Int32} {x2 : Int32} {nx sl : Nat} {r : Int32} (hk : K.1 th = 5) (h : fX5_wordHere th P x1 x2 = some r) : mm_C l yX5_wordHere (ws_ yX5_wordHere cX5_wordHere 5 (some .int)) 1 21 [.ref th, .int x1, .int x2] K P nx sl (mm_wrI K P nx sl r) :=
  mm_start (ls := [some (.ref th), some (.int x1), some (.int x2), none, none]) h (by decide) (Nat.le_of_ble_eq_true rfl) rfl (Nat.le_refl _) (Nat.le_refl _) rfl fun E hl9 _ _ _ C => by
  have C : mm_Cx E RX5 cX5_wordHere 5 (some .int) 1 21 := C
  unfold fX5_wordHere
  refine r_iconst (v := -1) C dX5_wordHere_0 rfl ?_
  refine r_istore_n (ls' := [some (.ref th), some (.int x1), some (.int x2), some (.int (-1 : Int32)), none]) C dX5_wordHere_1 rfl (Nat.le_of_ble_eq_true rfl) rfl rfl ?_
  refine r_iconst (v := 0) C dX5_wordHere_2 rfl ?_
  refine r_istore (ls' := [some (.ref th), some (.int x1), some (.int x2), some (.int (-1 : Int32)), some (.int (0 : Int32))]) C dX5_wordHere_3 (Nat.le_of_ble_eq_true rfl) rfl rfl ?_
  exact wfX5_wordHere_b5 C hk mm_NF x1 x2 (-1 : Int32) (0 : Int32)
/-! isName -/
def fX5_isName (th : Nat) (P : mm_P)  : Option Int32 :=
  if (gI P 648 th) ≠ 0 then
  (some ((0 : Int32)))
  else
  (mm_gd (mm_in (gI P 647 th) 1002) <|
  if (gA P 644 th (gI P 647 th).toNatClampNeg) ≠ (1 : Int32) then
  (some ((0 : Int32)))
  else
  (mm_bd (fX5_wordHere th P (0 : Int32) (23 : Int32)) fun r4 =>
  if 0 ≤ r4 then
  (some ((0 : Int32)))
  else
  (some ((1 : Int32)))))
set_option maxHeartbeats 4000000 in
theorem mc_X5_isName {l : Launch} {K : mm_K} {P : mm_P} {th : Nat}  {nx sl : Nat} {r : Int32} (hk : K.1 th = 5) (h : fX5_isName th P = some r) : mm_C l yX5_isName (ws_ yX5_isName cX5_isName 1 (some .boolean)) 2 45 [.ref th] K P nx sl (mm_wrI K P nx sl r) :=
  mm_start (ls := [some (.ref th)]) h (by decide) (Nat.le_of_ble_eq_true rfl) rfl (Nat.le_refl _) (Nat.le_refl _) rfl fun E hl9 _ _ _ C => by
  have C : mm_Cx E RX5 cX5_isName 1 (some .boolean) 2 45 := C
  unfold fX5_isName
  refine r_aload_n C dX5_isName_0 rfl rfl ?_
  refine r_getI (code := 648) C fl_X5_177 hk rfl dX5_isName_1 ?_
  refine r_ifne (tgt := 34) C dX5_isName_4 (by decide) (fun h1 => ?_) (fun h1 => ?_)
  · refine r_iconst (v := 0) C dX5_isName_34 rfl ?_
    exact r_zret C dX5_isName_35 rfl rfl
  · refine r_aload_n C dX5_isName_7 rfl rfl ?_
    refine r_getA C fl_X5_24 hk dX5_isName_8 ?_
    refine r_aload_n C dX5_isName_11 rfl rfl ?_
    refine r_getI (code := 647) C fl_X5_174 hk rfl dX5_isName_12 ?_
    refine r_iald C (rg_644 hk) rfl dX5_isName_15 fun h2 => ?_
    refine r_iconst (v := 1) C dX5_isName_16 rfl ?_
    refine r_icmpne (tgt := 34) C dX5_isName_17 (by decide) (fun h3 => ?_) (fun h3 => ?_)
    · refine r_iconst (v := 0) C dX5_isName_34 rfl ?_
      exact r_zret C dX5_isName_35 rfl rfl
    · refine r_aload_n C dX5_isName_20 rfl rfl ?_
      refine r_iconst (v := 0) C dX5_isName_21 rfl ?_
      refine r_bipush (v := 23) C dX5_isName_22 rfl ?_
      refine r_bd fun r4 h5 => ?_
      refine r_callV (As := [.int (0 : Int32), .int (23 : Int32)]) (st := []) C (mc_X5_wordHere hk h5) cv_X5_199 hk rfl (Nat.le_of_ble_eq_true rfl) (Nat.le_of_ble_eq_true rfl) rfl (Nat.le_of_ble_eq_true rfl) dX5_isName_24 ?_
      refine r_ifge (tgt := 34) C dX5_isName_27 (by decide) (fun h6 => ?_) (fun h6 => ?_)
      · refine r_iconst (v := 0) C dX5_isName_34 rfl ?_
        exact r_zret C dX5_isName_35 rfl rfl
      · refine r_iconst (v := 1) C dX5_isName_30 rfl ?_
        refine r_goto (tgt := 35) C dX5_isName_31 (by decide) ?_
        exact r_zret C dX5_isName_35 rfl rfl
/-! find -/
def fX5_find_b42 (th : Nat) (P : mm_P) (k4 : Int32 → Int32 → Int32 → Option Int32) (x1 : Int32) (x2 : Int32) (x3 : Int32) (s0 : Int64) : Option Int32 :=
  mm_gd (mm_in (gI P 647 th) 1002) <|
  if (lg_cmp s0 (gL P 646 th (gI P 647 th).toNatClampNeg)) ≠ 0 then
  (k4 x1 x2 (x3 + (1 : Int32)))
  else
  (k4 x1 x3 (x3 + (1 : Int32)))
set_option maxHeartbeats 4000000 in
theorem wfX5_find_b42 {E : mm_E} (C : mm_Cx E RX5 cX5_find 4 (some .int) 0 0) {K : mm_K} {th : Nat} (hk : K.1 th = 5) {P : mm_P} {nx sl : Nat} {k4 : Int32 → Int32 → Int32 → Option Int32} (hk4 : ∀ (x1 : Int32) (x2 : Int32) (x3 : Int32), mm_V E (mm_wrI K P nx sl) 4 [some (.ref th), some (.int x1), some (.int x2), some (.int x3)] [] K P nx sl (k4 x1 x2 x3)) (x1 : Int32) (x2 : Int32) (x3 : Int32) (s0 : Int64) : mm_V E (mm_wrI K P nx sl) 42 [some (.ref th), some (.int x1), some (.int x2), some (.int x3)] [.long s0] K P nx sl (fX5_find_b42 th P k4 x1 x2 x3 s0) := by
  unfold fX5_find_b42
  refine r_aload_n C dX5_find_42 rfl rfl ?_
  refine r_getA C fl_X5_30 hk dX5_find_43 ?_
  refine r_aload_n C dX5_find_46 rfl rfl ?_
  refine r_getI (code := 647) C fl_X5_174 hk rfl dX5_find_47 ?_
  refine r_lald C (rg_646 hk) rfl dX5_find_50 fun h1 => ?_
  refine r_lcmp C dX5_find_51 ?_
  refine r_ifne (tgt := 59) C dX5_find_52 (by decide) (fun h2 => ?_) (fun h2 => ?_)
  · refine r_iload_n C dX5_find_59 rfl rfl ?_
    refine r_istore_n (ls' := [some (.ref th), some (.int x1), some (.int x2), some (.int x3)]) C dX5_find_60 rfl (Nat.le_of_ble_eq_true rfl) rfl rfl ?_
    refine r_iinc (v := 1) (ls' := [some (.ref th), some (.int x1), some (.int x2), some (.int (x3 + (1 : Int32)))]) C dX5_find_61 rfl rfl (Nat.le_of_ble_eq_true rfl) rfl rfl ?_
    refine r_goto (tgt := 4) C dX5_find_64 (by decide) ?_
    exact hk4 x1 x2 (x3 + (1 : Int32))
  · refine r_iload_n C dX5_find_55 rfl rfl ?_
    refine r_goto (tgt := 60) C dX5_find_56 (by decide) ?_
    refine r_istore_n (ls' := [some (.ref th), some (.int x1), some (.int x3), some (.int x3)]) C dX5_find_60 rfl (Nat.le_of_ble_eq_true rfl) rfl rfl ?_
    refine r_iinc (v := 1) (ls' := [some (.ref th), some (.int x1), some (.int x3), some (.int (x3 + (1 : Int32)))]) C dX5_find_61 rfl rfl (Nat.le_of_ble_eq_true rfl) rfl rfl ?_
    refine r_goto (tgt := 4) C dX5_find_64 (by decide) ?_
    exact hk4 x1 x3 (x3 + (1 : Int32))
def fX5_find_b20 (th : Nat) (P : mm_P) (k4 : Int32 → Int32 → Int32 → Option Int32) (x1 : Int32) (x2 : Int32) (x3 : Int32) (s0 : Int32) (s1 : Int32) : Option Int32 :=
  if s1 ≤ s0 then
  (some (x2))
  else
  (if x1 = 0 then
  (mm_gd (mm_in x3 6) <|
  fX5_find_b42 th P k4 x1 x2 x3 (gL P 654 th x3.toNatClampNeg))
  else
  (mm_gd (mm_in x3 6) <|
  fX5_find_b42 th P k4 x1 x2 x3 (gL P 655 th x3.toNatClampNeg)))
set_option maxHeartbeats 4000000 in
theorem wfX5_find_b20 {E : mm_E} (C : mm_Cx E RX5 cX5_find 4 (some .int) 0 0) {K : mm_K} {th : Nat} (hk : K.1 th = 5) {P : mm_P} {nx sl : Nat} {k4 : Int32 → Int32 → Int32 → Option Int32} (hk4 : ∀ (x1 : Int32) (x2 : Int32) (x3 : Int32), mm_V E (mm_wrI K P nx sl) 4 [some (.ref th), some (.int x1), some (.int x2), some (.int x3)] [] K P nx sl (k4 x1 x2 x3)) (x1 : Int32) (x2 : Int32) (x3 : Int32) (s0 : Int32) (s1 : Int32) : mm_V E (mm_wrI K P nx sl) 20 [some (.ref th), some (.int x1), some (.int x2), some (.int x3)] [.int s1, .int s0] K P nx sl (fX5_find_b20 th P k4 x1 x2 x3 s0 s1) := by
  unfold fX5_find_b20
  refine r_icmpge (tgt := 67) C dX5_find_20 (by decide) (fun h1 => ?_) (fun h1 => ?_)
  · refine r_iload_n C dX5_find_67 rfl rfl ?_
    exact r_iret C dX5_find_68 rfl
  · refine r_iload_n C dX5_find_23 rfl rfl ?_
    refine r_ifeq (tgt := 36) C dX5_find_24 (by decide) (fun h2 => ?_) (fun h2 => ?_)
    · refine r_aload_n C dX5_find_36 rfl rfl ?_
      refine r_getA C fl_X5_98 hk dX5_find_37 ?_
      refine r_iload_n C dX5_find_40 rfl rfl ?_
      refine r_lald C (rg_654 hk) rfl dX5_find_41 fun h3 => ?_
      exact wfX5_find_b42 C hk hk4 x1 x2 x3 (gL P 654 th x3.toNatClampNeg)
    · refine r_aload_n C dX5_find_27 rfl rfl ?_
      refine r_getA C fl_X5_101 hk dX5_find_28 ?_
      refine r_iload_n C dX5_find_31 rfl rfl ?_
      refine r_lald C (rg_655 hk) rfl dX5_find_32 fun h4 => ?_
      refine r_goto (tgt := 42) C dX5_find_33 (by decide) ?_
      exact wfX5_find_b42 C hk hk4 x1 x2 x3 (gL P 655 th x3.toNatClampNeg)
def fX5_find_b4 (th : Nat) (P : mm_P)  : Nat → Int32 → Int32 → Int32 → Option Int32
  | 0, _, _, _ => none
  | n + 1, x1, x2, x3 =>
  if x1 = 0 then
  (fX5_find_b20 th P (fX5_find_b4 th P n) x1 x2 x3 x3 (gI P 656 th))
  else
  (fX5_find_b20 th P (fX5_find_b4 th P n) x1 x2 x3 x3 (gI P 657 th))
set_option maxHeartbeats 4000000 in
theorem wfX5_find_b4 {E : mm_E} (C : mm_Cx E RX5 cX5_find 4 (some .int) 0 0) {K : mm_K} {th : Nat} (hk : K.1 th = 5) {P : mm_P} {nx sl : Nat} : ∀ (n : Nat), ∀ (x1 : Int32) (x2 : Int32) (x3 : Int32), mm_V E (mm_wrI K P nx sl) 4 [some (.ref th), some (.int x1), some (.int x2), some (.int x3)] [] K P nx sl (fX5_find_b4 th P n x1 x2 x3) := by
  intro n
  induction n with
  | zero => intro x1 x2 x3; exact r_none
  | succ n ih =>
    intro x1 x2 x3
    rw [fX5_find_b4]
    refine r_iload_n C dX5_find_4 rfl rfl ?_
    refine r_iload_n C dX5_find_5 rfl rfl ?_
    refine r_ifeq (tgt := 16) C dX5_find_6 (by decide) (fun h1 => ?_) (fun h1 => ?_)
    · refine r_aload_n C dX5_find_16 rfl rfl ?_
      refine r_getI (code := 656) C fl_X5_205 hk rfl dX5_find_17 ?_
      exact wfX5_find_b20 C hk ih x1 x2 x3 x3 (gI P 656 th)
    · refine r_aload_n C dX5_find_9 rfl rfl ?_
      refine r_getI (code := 657) C fl_X5_202 hk rfl dX5_find_10 ?_
      refine r_goto (tgt := 20) C dX5_find_13 (by decide) ?_
      exact wfX5_find_b20 C hk ih x1 x2 x3 x3 (gI P 657 th)
def fX5_find (th : Nat) (P : mm_P) (x1 : Int32) : Option Int32 :=
  fX5_find_b4 th P mm_NF x1 (-1 : Int32) (0 : Int32)
set_option maxHeartbeats 4000000 in
theorem mc_X5_find {l : Launch} {K : mm_K} {P : mm_P} {th : Nat} {x1 : Int32} {nx sl : Nat} {r : Int32} (hk : K.1 th = 5) (h : fX5_find th P x1 = some r) : mm_C l yX5_find (ws_ yX5_find cX5_find 4 (some .int)) 0 0 [.ref th, .int x1] K P nx sl (mm_wrI K P nx sl r) :=
  mm_start (ls := [some (.ref th), some (.int x1), none, none]) h (by decide) (Nat.le_of_ble_eq_true rfl) rfl (Nat.le_refl _) (Nat.le_refl _) rfl fun E hl9 _ _ _ C => by
  have C : mm_Cx E RX5 cX5_find 4 (some .int) 0 0 := C
  unfold fX5_find
  refine r_iconst (v := -1) C dX5_find_0 rfl ?_
  refine r_istore_n (ls' := [some (.ref th), some (.int x1), some (.int (-1 : Int32)), none]) C dX5_find_1 rfl (Nat.le_of_ble_eq_true rfl) rfl rfl ?_
  refine r_iconst (v := 0) C dX5_find_2 rfl ?_
  refine r_istore_n (ls' := [some (.ref th), some (.int x1), some (.int (-1 : Int32)), some (.int (0 : Int32))]) C dX5_find_3 rfl (Nat.le_of_ble_eq_true rfl) rfl rfl ?_
  exact wfX5_find_b4 C hk mm_NF x1 (-1 : Int32) (0 : Int32)
/-! takeOne -/
def fX5_takeOne_b51 (th : Nat)  (x3 : Int32) (s1 : Int32) (s2 : Int32) (P : mm_P) : Option (Int32 × mm_P) :=
  mm_lt (sI P 647 th (s1 + s2)) fun P1 =>
  if (gI P1 648 th) ≤ 0 then
  (some (x3, P1))
  else
  (some ((0 : Int32), P1))
set_option maxHeartbeats 4000000 in
theorem wfX5_takeOne_b51 {E : mm_E} (C : mm_Cx E RX5 cX5_takeOne 4 (some .int) 2 45) {K : mm_K} {th : Nat} (hk : K.1 th = 5) {nx sl : Nat} (x3 : Int32) (s1 : Int32) (s2 : Int32) (P : mm_P) : mm_V E (mm_wwI K nx sl) 51 [some (.ref th), none, none, some (.int x3)] [.int s2, .int s1, .ref th] K P nx sl (fX5_takeOne_b51 th x3 s1 s2 P) := by
  unfold fX5_takeOne_b51
  refine r_iadd C dX5_takeOne_51 ?_
  refine r_putI (code := 647) C fl_X5_174 hk rfl rfl dX5_takeOne_52 ?_
  refine r_ltP fun P1 => ?_
  refine r_aload_n C dX5_takeOne_55 rfl rfl ?_
  refine r_getI (code := 648) C fl_X5_177 hk rfl dX5_takeOne_56 ?_
  refine r_ifle (tgt := 66) C dX5_takeOne_59 (by decide) (fun h2 => ?_) (fun h2 => ?_)
  · refine r_iload_n C dX5_takeOne_66 rfl rfl ?_
    exact r_iret C dX5_takeOne_67 rfl
  · refine r_iconst (v := 0) C dX5_takeOne_62 rfl ?_
    refine r_goto (tgt := 67) C dX5_takeOne_63 (by decide) ?_
    exact r_iret C dX5_takeOne_67 rfl
def fX5_takeOne_b34 (th : Nat)  (x3 : Int32) (P : mm_P) : Option (Int32 × mm_P) :=
  if (gI P 648 th) ≤ 0 then
  (fX5_takeOne_b51 th x3 (gI P 647 th) (1 : Int32) P)
  else
  (fX5_takeOne_b51 th x3 (gI P 647 th) (0 : Int32) P)
set_option maxHeartbeats 4000000 in
theorem wfX5_takeOne_b34 {E : mm_E} (C : mm_Cx E RX5 cX5_takeOne 4 (some .int) 2 45) {K : mm_K} {th : Nat} (hk : K.1 th = 5) {nx sl : Nat} (x3 : Int32) (P : mm_P) : mm_V E (mm_wwI K nx sl) 34 [some (.ref th), none, none, some (.int x3)] [] K P nx sl (fX5_takeOne_b34 th x3 P) := by
  unfold fX5_takeOne_b34
  refine r_aload_n C dX5_takeOne_34 rfl rfl ?_
  refine r_dup C dX5_takeOne_35 rfl ?_
  refine r_getI (code := 647) C fl_X5_174 hk rfl dX5_takeOne_36 ?_
  refine r_aload_n C dX5_takeOne_39 rfl rfl ?_
  refine r_getI (code := 648) C fl_X5_177 hk rfl dX5_takeOne_40 ?_
  refine r_ifle (tgt := 50) C dX5_takeOne_43 (by decide) (fun h1 => ?_) (fun h1 => ?_)
  · refine r_iconst (v := 1) C dX5_takeOne_50 rfl ?_
    exact wfX5_takeOne_b51 C hk x3 (gI P 647 th) (1 : Int32) P
  · refine r_iconst (v := 0) C dX5_takeOne_46 rfl ?_
    refine r_goto (tgt := 51) C dX5_takeOne_47 (by decide) ?_
    exact wfX5_takeOne_b51 C hk x3 (gI P 647 th) (0 : Int32) P
def fX5_takeOne_b17 (th : Nat)  (s0 : Int32) (P : mm_P) : Option (Int32 × mm_P) :=
  if (gI P 648 th) ≠ 0 then
  (fX5_takeOne_b34 th s0 P)
  else
  (if 0 ≤ s0 then
  (fX5_takeOne_b34 th s0 P)
  else
  (mm_bd (fX5_wrong th (1 : Int32) P) fun r3 =>
  fX5_takeOne_b34 th s0 r3))
set_option maxHeartbeats 4000000 in
theorem wfX5_takeOne_b17 {E : mm_E} (C : mm_Cx E RX5 cX5_takeOne 4 (some .int) 2 45) {K : mm_K} {th : Nat} (hk : K.1 th = 5) {nx sl : Nat} (s0 : Int32) (P : mm_P) : mm_V E (mm_wwI K nx sl) 17 [some (.ref th), none, none, none] [.int s0] K P nx sl (fX5_takeOne_b17 th s0 P) := by
  unfold fX5_takeOne_b17
  refine r_istore_n (ls' := [some (.ref th), none, none, some (.int s0)]) C dX5_takeOne_17 rfl (Nat.le_of_ble_eq_true rfl) rfl rfl ?_
  refine r_aload_n C dX5_takeOne_18 rfl rfl ?_
  refine r_getI (code := 648) C fl_X5_177 hk rfl dX5_takeOne_19 ?_
  refine r_ifne (tgt := 34) C dX5_takeOne_22 (by decide) (fun h1 => ?_) (fun h1 => ?_)
  · exact wfX5_takeOne_b34 C hk s0 P
  · refine r_iload_n C dX5_takeOne_25 rfl rfl ?_
    refine r_ifge (tgt := 34) C dX5_takeOne_26 (by decide) (fun h2 => ?_) (fun h2 => ?_)
    · exact wfX5_takeOne_b34 C hk s0 P
    · refine r_aload_n C dX5_takeOne_29 rfl rfl ?_
      refine r_iconst (v := 1) C dX5_takeOne_30 rfl ?_
      refine r_bd fun r3 h4 => ?_
      refine r_callVv (As := [.int (1 : Int32)]) (st := []) C (mc_X5_wrong hk h4) cv_X5_183 hk rfl (Nat.le_of_ble_eq_true rfl) (Nat.le_of_ble_eq_true rfl) rfl (Nat.le_of_ble_eq_true rfl) dX5_takeOne_31 ?_
      exact wfX5_takeOne_b34 C hk s0 r3
def fX5_takeOne (th : Nat) (x1 : Int32) (x2 : Int32) (P : mm_P) : Option (Int32 × mm_P) :=
  if (gI P 648 th) ≤ 0 then
  (mm_bd (fX5_wordHere th P x1 x2) fun r2 =>
  fX5_takeOne_b17 th r2 P)
  else
  (fX5_takeOne_b17 th (-1 : Int32) P)
set_option maxHeartbeats 4000000 in
theorem mc_X5_takeOne {l : Launch} {K : mm_K} {P : mm_P} {th : Nat} {x1 : Int32} {x2 : Int32} {nx sl : Nat} {r : (Int32 × mm_P)} (hk : K.1 th = 5) (h : fX5_takeOne th x1 x2 P = some r) : mm_C l yX5_takeOne (ws_ yX5_takeOne cX5_takeOne 4 (some .int)) 2 45 [.ref th, .int x1, .int x2] K P nx sl (mm_wwI K nx sl r) :=
  mm_start (ls := [some (.ref th), some (.int x1), some (.int x2), none]) h (by decide) (Nat.le_of_ble_eq_true rfl) rfl (Nat.le_refl _) (Nat.le_refl _) rfl fun E hl9 _ _ _ C => by
  have C : mm_Cx E RX5 cX5_takeOne 4 (some .int) 2 45 := C
  unfold fX5_takeOne
  refine r_aload_n C dX5_takeOne_0 rfl rfl ?_
  refine r_getI (code := 648) C fl_X5_177 hk rfl dX5_takeOne_1 ?_
  refine r_ifle (tgt := 11) C dX5_takeOne_4 (by decide) (fun h1 => ?_) (fun h1 => ?_)
  · refine r_aload_n C dX5_takeOne_11 rfl rfl ?_
    refine r_iload_n C dX5_takeOne_12 rfl rfl ?_
    refine r_iload_n C dX5_takeOne_13 rfl rfl ?_
    refine r_bd fun r2 h3 => ?_
    refine r_callV (As := [.int x1, .int x2]) (st := []) C (mc_X5_wordHere hk h3) cv_X5_199 hk rfl (Nat.le_of_ble_eq_true rfl) (Nat.le_of_ble_eq_true rfl) rfl (Nat.le_of_ble_eq_true rfl) dX5_takeOne_14 ?_
    refine r_mask [true, false, false, true] (ls' := [some (.ref th), none, none, none]) rfl ?_
    exact wfX5_takeOne_b17 C hk r2 P
  · refine r_iconst (v := -1) C dX5_takeOne_7 rfl ?_
    refine r_goto (tgt := 17) C dX5_takeOne_8 (by decide) ?_
    refine r_mask [true, false, false, true] (ls' := [some (.ref th), none, none, none]) rfl ?_
    exact wfX5_takeOne_b17 C hk (-1 : Int32) P
/-! hasWord -/
def fX5_hasWord (th : Nat) (x1 : Int32) (P : mm_P) : Option (Int32 × mm_P) :=
  mm_bd (fX5_isWord th P x1) fun r1 =>
  if r1 = 0 then
  (mm_lt (sI P 647 th ((gI P 647 th) + (0 : Int32))) fun P4 =>
  mm_gd (r1 &&& 1 = r1) <|
  some (r1, P4))
  else
  (mm_lt (sI P 647 th ((gI P 647 th) + (1 : Int32))) fun P6 =>
  mm_gd (r1 &&& 1 = r1) <|
  some (r1, P6))
set_option maxHeartbeats 4000000 in
theorem mc_X5_hasWord {l : Launch} {K : mm_K} {P : mm_P} {th : Nat} {x1 : Int32} {nx sl : Nat} {r : (Int32 × mm_P)} (hk : K.1 th = 5) (h : fX5_hasWord th x1 P = some r) : mm_C l yX5_hasWord (ws_ yX5_hasWord cX5_hasWord 3 (some .boolean)) 1 21 [.ref th, .int x1] K P nx sl (mm_wwI K nx sl r) :=
  mm_start (ls := [some (.ref th), some (.int x1), none]) h (by decide) (Nat.le_of_ble_eq_true rfl) rfl (Nat.le_refl _) (Nat.le_refl _) rfl fun E hl9 _ _ _ C => by
  have C : mm_Cx E RX5 cX5_hasWord 3 (some .boolean) 1 21 := C
  unfold fX5_hasWord
  refine r_aload_n C dX5_hasWord_0 rfl rfl ?_
  refine r_iload_n C dX5_hasWord_1 rfl rfl ?_
  refine r_bd fun r1 h2 => ?_
  refine r_callV (As := [.int x1]) (st := []) C (mc_X5_isWord hk h2) cv_X5_186 hk rfl (Nat.le_of_ble_eq_true rfl) (Nat.le_of_ble_eq_true rfl) rfl (Nat.le_of_ble_eq_true rfl) dX5_hasWord_2 ?_
  refine r_istore_n (ls' := [some (.ref th), some (.int x1), some (.int r1)]) C dX5_hasWord_5 rfl (Nat.le_of_ble_eq_true rfl) rfl rfl ?_
  refine r_aload_n C dX5_hasWord_6 rfl rfl ?_
  refine r_dup C dX5_hasWord_7 rfl ?_
  refine r_getI (code := 647) C fl_X5_174 hk rfl dX5_hasWord_8 ?_
  refine r_iload_n C dX5_hasWord_11 rfl rfl ?_
  refine r_ifeq (tgt := 19) C dX5_hasWord_12 (by decide) (fun h3 => ?_) (fun h3 => ?_)
  · refine r_iconst (v := 0) C dX5_hasWord_19 rfl ?_
    refine r_iadd C dX5_hasWord_20 ?_
    refine r_putI (code := 647) C fl_X5_174 hk rfl rfl dX5_hasWord_21 ?_
    refine r_ltP fun P4 => ?_
    refine r_iload_n C dX5_hasWord_24 rfl rfl ?_
    refine r_gd fun h5 => ?_
    exact r_zret C dX5_hasWord_25 (mm_nz h5) rfl
  · refine r_iconst (v := 1) C dX5_hasWord_15 rfl ?_
    refine r_goto (tgt := 20) C dX5_hasWord_16 (by decide) ?_
    refine r_iadd C dX5_hasWord_20 ?_
    refine r_putI (code := 647) C fl_X5_174 hk rfl rfl dX5_hasWord_21 ?_
    refine r_ltP fun P6 => ?_
    refine r_iload_n C dX5_hasWord_24 rfl rfl ?_
    refine r_gd fun h7 => ?_
    exact r_zret C dX5_hasWord_25 (mm_nz h7) rfl
/-! takeWord -/
def fX5_takeWord (th : Nat) (x1 : Int32) (P : mm_P) : Option mm_P :=
  mm_bd (fX5_hasWord th x1 P) fun r1 =>
  if r1.1 ≠ 0 then
  (some r1.2)
  else
  (mm_bd (fX5_wrong th (1 : Int32) r1.2) fun r4 =>
  some r4)
set_option maxHeartbeats 4000000 in
theorem mc_X5_takeWord {l : Launch} {K : mm_K} {P : mm_P} {th : Nat} {x1 : Int32} {nx sl : Nat} {r : mm_P} (hk : K.1 th = 5) (h : fX5_takeWord th x1 P = some r) : mm_C l yX5_takeWord (ws_ yX5_takeWord cX5_takeWord 2 none) 2 43 [.ref th, .int x1] K P nx sl (mm_wwV K nx sl r) :=
  mm_start (ls := [some (.ref th), some (.int x1)]) h (by decide) (Nat.le_of_ble_eq_true rfl) rfl (Nat.le_refl _) (Nat.le_refl _) rfl fun E hl9 _ _ _ C => by
  have C : mm_Cx E RX5 cX5_takeWord 2 none 2 43 := C
  unfold fX5_takeWord
  refine r_aload_n C dX5_takeWord_0 rfl rfl ?_
  refine r_iload_n C dX5_takeWord_1 rfl rfl ?_
  refine r_bd fun r1 h2 => ?_
  refine r_callV (As := [.int x1]) (st := []) C (mc_X5_hasWord hk h2) cv_X5_189 hk rfl (Nat.le_of_ble_eq_true rfl) (Nat.le_of_ble_eq_true rfl) rfl (Nat.le_of_ble_eq_true rfl) dX5_takeWord_2 ?_
  refine r_ifne (tgt := 13) C dX5_takeWord_5 (by decide) (fun h3 => ?_) (fun h3 => ?_)
  · exact r_vret C dX5_takeWord_13 rfl
  · refine r_aload_n C dX5_takeWord_8 rfl rfl ?_
    refine r_iconst (v := 1) C dX5_takeWord_9 rfl ?_
    refine r_bd fun r4 h5 => ?_
    refine r_callVv (As := [.int (1 : Int32)]) (st := []) C (mc_X5_wrong hk h5) cv_X5_183 hk rfl (Nat.le_of_ble_eq_true rfl) (Nat.le_of_ble_eq_true rfl) rfl (Nat.le_of_ble_eq_true rfl) dX5_takeWord_10 ?_
    exact r_vret C dX5_takeWord_13 rfl
/-! takeNumber -/
def fX5_takeNumber_b70 (th : Nat)  (P : mm_P) : Option (Int32 × mm_P) :=
  if (gI P 648 th) ≤ 0 then
  (mm_lt (sI P 647 th ((gI P 647 th) + (1 : Int32))) fun P2 =>
  mm_gd (mm_in ((gI P2 647 th) - (1 : Int32)) 1002) <|
  some ((gL P2 646 th ((gI P2 647 th) - (1 : Int32)).toNatClampNeg).toInt32, P2))
  else
  (some ((0 : Int32), P))
set_option maxHeartbeats 4000000 in
theorem wfX5_takeNumber_b70 {E : mm_E} (C : mm_Cx E RX5 cX5_takeNumber 3 (some .int) 1 21) {K : mm_K} {th : Nat} (hk : K.1 th = 5) {nx sl : Nat} (P : mm_P) : mm_V E (mm_wwI K nx sl) 70 [some (.ref th), none, none] [] K P nx sl (fX5_takeNumber_b70 th P) := by
  unfold fX5_takeNumber_b70
  refine r_aload_n C dX5_takeNumber_70 rfl rfl ?_
  refine r_getI (code := 648) C fl_X5_177 hk rfl dX5_takeNumber_71 ?_
  refine r_ifle (tgt := 79) C dX5_takeNumber_74 (by decide) (fun h1 => ?_) (fun h1 => ?_)
  · refine r_aload_n C dX5_takeNumber_79 rfl rfl ?_
    refine r_dup C dX5_takeNumber_80 rfl ?_
    refine r_getI (code := 647) C fl_X5_174 hk rfl dX5_takeNumber_81 ?_
    refine r_iconst (v := 1) C dX5_takeNumber_84 rfl ?_
    refine r_iadd C dX5_takeNumber_85 ?_
    refine r_putI (code := 647) C fl_X5_174 hk rfl rfl dX5_takeNumber_86 ?_
    refine r_ltP fun P2 => ?_
    refine r_aload_n C dX5_takeNumber_89 rfl rfl ?_
    refine r_getA C fl_X5_30 hk dX5_takeNumber_90 ?_
    refine r_aload_n C dX5_takeNumber_93 rfl rfl ?_
    refine r_getI (code := 647) C fl_X5_174 hk rfl dX5_takeNumber_94 ?_
    refine r_iconst (v := 1) C dX5_takeNumber_97 rfl ?_
    refine r_isub C dX5_takeNumber_98 ?_
    refine r_lald C (rg_646 hk) rfl dX5_takeNumber_99 fun h3 => ?_
    refine r_l2i C dX5_takeNumber_100 ?_
    exact r_iret C dX5_takeNumber_101 rfl
  · refine r_iconst (v := 0) C dX5_takeNumber_77 rfl ?_
    exact r_iret C dX5_takeNumber_78 rfl
def fX5_takeNumber_b65 (th : Nat)  (P : mm_P) : Option (Int32 × mm_P) :=
  mm_bd (fX5_wrong th (4 : Int32) P) fun r1 =>
  fX5_takeNumber_b70 th r1
set_option maxHeartbeats 4000000 in
theorem wfX5_takeNumber_b65 {E : mm_E} (C : mm_Cx E RX5 cX5_takeNumber 3 (some .int) 1 21) {K : mm_K} {th : Nat} (hk : K.1 th = 5) {nx sl : Nat} (P : mm_P) : mm_V E (mm_wwI K nx sl) 65 [some (.ref th), none, none] [] K P nx sl (fX5_takeNumber_b65 th P) := by
  unfold fX5_takeNumber_b65
  refine r_aload_n C dX5_takeNumber_65 rfl rfl ?_
  refine r_iconst (v := 4) C dX5_takeNumber_66 rfl ?_
  refine r_bd fun r1 h2 => ?_
  refine r_callVv (As := [.int (4 : Int32)]) (st := []) C (mc_X5_wrong hk h2) cv_X5_183 hk rfl (Nat.le_of_ble_eq_true rfl) (Nat.le_of_ble_eq_true rfl) rfl (Nat.le_of_ble_eq_true rfl) dX5_takeNumber_67 ?_
  exact wfX5_takeNumber_b70 C hk r1
def fX5_takeNumber_b28 (th : Nat)  (x1 : Int32) (x2 : Int32) (P : mm_P) : Option (Int32 × mm_P) :=
  if (gI P 648 th) ≠ 0 then
  (fX5_takeNumber_b70 th P)
  else
  (mm_gd (mm_in (gI P 647 th) 1002) <|
  if (lg_cmp (gL P 646 th (gI P 647 th).toNatClampNeg) x1.toInt64) < 0 then
  (fX5_takeNumber_b65 th P)
  else
  (mm_gd (mm_in (gI P 647 th) 1002) <|
  if (lg_cmp (gL P 646 th (gI P 647 th).toNatClampNeg) x2.toInt64) ≤ 0 then
  (fX5_takeNumber_b70 th P)
  else
  (fX5_takeNumber_b65 th P)))
set_option maxHeartbeats 4000000 in
theorem wfX5_takeNumber_b28 {E : mm_E} (C : mm_Cx E RX5 cX5_takeNumber 3 (some .int) 1 21) {K : mm_K} {th : Nat} (hk : K.1 th = 5) {nx sl : Nat} (x1 : Int32) (x2 : Int32) (P : mm_P) : mm_V E (mm_wwI K nx sl) 28 [some (.ref th), some (.int x1), some (.int x2)] [] K P nx sl (fX5_takeNumber_b28 th x1 x2 P) := by
  unfold fX5_takeNumber_b28
  refine r_aload_n C dX5_takeNumber_28 rfl rfl ?_
  refine r_getI (code := 648) C fl_X5_177 hk rfl dX5_takeNumber_29 ?_
  refine r_ifne (tgt := 70) C dX5_takeNumber_32 (by decide) (fun h1 => ?_) (fun h1 => ?_)
  · refine r_mask [true, false, false] (ls' := [some (.ref th), none, none]) rfl ?_
    exact wfX5_takeNumber_b70 C hk P
  · refine r_aload_n C dX5_takeNumber_35 rfl rfl ?_
    refine r_getA C fl_X5_30 hk dX5_takeNumber_36 ?_
    refine r_aload_n C dX5_takeNumber_39 rfl rfl ?_
    refine r_getI (code := 647) C fl_X5_174 hk rfl dX5_takeNumber_40 ?_
    refine r_lald C (rg_646 hk) rfl dX5_takeNumber_43 fun h2 => ?_
    refine r_iload_n C dX5_takeNumber_44 rfl rfl ?_
    refine r_i2l C dX5_takeNumber_45 ?_
    refine r_lcmp C dX5_takeNumber_46 ?_
    refine r_iflt (tgt := 65) C dX5_takeNumber_47 (by decide) (fun h3 => ?_) (fun h3 => ?_)
    · refine r_mask [true, false, false] (ls' := [some (.ref th), none, none]) rfl ?_
      exact wfX5_takeNumber_b65 C hk P
    · refine r_aload_n C dX5_takeNumber_50 rfl rfl ?_
      refine r_getA C fl_X5_30 hk dX5_takeNumber_51 ?_
      refine r_aload_n C dX5_takeNumber_54 rfl rfl ?_
      refine r_getI (code := 647) C fl_X5_174 hk rfl dX5_takeNumber_55 ?_
      refine r_lald C (rg_646 hk) rfl dX5_takeNumber_58 fun h4 => ?_
      refine r_iload_n C dX5_takeNumber_59 rfl rfl ?_
      refine r_i2l C dX5_takeNumber_60 ?_
      refine r_lcmp C dX5_takeNumber_61 ?_
      refine r_ifle (tgt := 70) C dX5_takeNumber_62 (by decide) (fun h5 => ?_) (fun h5 => ?_)
      · refine r_mask [true, false, false] (ls' := [some (.ref th), none, none]) rfl ?_
        exact wfX5_takeNumber_b70 C hk P
      · refine r_mask [true, false, false] (ls' := [some (.ref th), none, none]) rfl ?_
        exact wfX5_takeNumber_b65 C hk P
def fX5_takeNumber (th : Nat) (x1 : Int32) (x2 : Int32) (P : mm_P) : Option (Int32 × mm_P) :=
  if (gI P 648 th) ≠ 0 then
  (fX5_takeNumber_b28 th x1 x2 P)
  else
  (mm_gd (mm_in (gI P 647 th) 1002) <|
  if (gA P 644 th (gI P 647 th).toNatClampNeg) = (2 : Int32) then
  (fX5_takeNumber_b28 th x1 x2 P)
  else
  (mm_bd (fX5_wrong th (1 : Int32) P) fun r4 =>
  fX5_takeNumber_b70 th r4))
set_option maxHeartbeats 4000000 in
theorem mc_X5_takeNumber {l : Launch} {K : mm_K} {P : mm_P} {th : Nat} {x1 : Int32} {x2 : Int32} {nx sl : Nat} {r : (Int32 × mm_P)} (hk : K.1 th = 5) (h : fX5_takeNumber th x1 x2 P = some r) : mm_C l yX5_takeNumber (ws_ yX5_takeNumber cX5_takeNumber 3 (some .int)) 1 21 [.ref th, .int x1, .int x2] K P nx sl (mm_wwI K nx sl r) :=
  mm_start (ls := [some (.ref th), some (.int x1), some (.int x2)]) h (by decide) (Nat.le_of_ble_eq_true rfl) rfl (Nat.le_refl _) (Nat.le_refl _) rfl fun E hl9 _ _ _ C => by
  have C : mm_Cx E RX5 cX5_takeNumber 3 (some .int) 1 21 := C
  unfold fX5_takeNumber
  refine r_aload_n C dX5_takeNumber_0 rfl rfl ?_
  refine r_getI (code := 648) C fl_X5_177 hk rfl dX5_takeNumber_1 ?_
  refine r_ifne (tgt := 28) C dX5_takeNumber_4 (by decide) (fun h1 => ?_) (fun h1 => ?_)
  · exact wfX5_takeNumber_b28 C hk x1 x2 P
  · refine r_aload_n C dX5_takeNumber_7 rfl rfl ?_
    refine r_getA C fl_X5_24 hk dX5_takeNumber_8 ?_
    refine r_aload_n C dX5_takeNumber_11 rfl rfl ?_
    refine r_getI (code := 647) C fl_X5_174 hk rfl dX5_takeNumber_12 ?_
    refine r_iald C (rg_644 hk) rfl dX5_takeNumber_15 fun h2 => ?_
    refine r_iconst (v := 2) C dX5_takeNumber_16 rfl ?_
    refine r_icmpeq (tgt := 28) C dX5_takeNumber_17 (by decide) (fun h3 => ?_) (fun h3 => ?_)
    · exact wfX5_takeNumber_b28 C hk x1 x2 P
    · refine r_aload_n C dX5_takeNumber_20 rfl rfl ?_
      refine r_iconst (v := 1) C dX5_takeNumber_21 rfl ?_
      refine r_bd fun r4 h5 => ?_
      refine r_callVv (As := [.int (1 : Int32)]) (st := []) C (mc_X5_wrong hk h5) cv_X5_183 hk rfl (Nat.le_of_ble_eq_true rfl) (Nat.le_of_ble_eq_true rfl) rfl (Nat.le_of_ble_eq_true rfl) dX5_takeNumber_22 ?_
      refine r_goto (tgt := 70) C dX5_takeNumber_25 (by decide) ?_
      refine r_mask [true, false, false] (ls' := [some (.ref th), none, none]) rfl ?_
      exact wfX5_takeNumber_b70 C hk r4
/-! takeAfter -/
def fX5_takeAfter (th : Nat) (x1 : Int32) (x2 : Int32) (x3 : Int32) (P : mm_P) : Option (Int32 × mm_P) :=
  mm_bd (fX5_takeWord th x1 P) fun r1 =>
  mm_bd (fX5_takeNumber th x2 x3 r1) fun r3 =>
  some (r3.1, r3.2)
set_option maxHeartbeats 4000000 in
theorem mc_X5_takeAfter {l : Launch} {K : mm_K} {P : mm_P} {th : Nat} {x1 : Int32} {x2 : Int32} {x3 : Int32} {nx sl : Nat} {r : (Int32 × mm_P)} (hk : K.1 th = 5) (h : fX5_takeAfter th x1 x2 x3 P = some r) : mm_C l yX5_takeAfter (ws_ yX5_takeAfter cX5_takeAfter 4 (some .int)) 3 64 [.ref th, .int x1, .int x2, .int x3] K P nx sl (mm_wwI K nx sl r) :=
  mm_start (ls := [some (.ref th), some (.int x1), some (.int x2), some (.int x3)]) h (by decide) (Nat.le_of_ble_eq_true rfl) rfl (Nat.le_refl _) (Nat.le_refl _) rfl fun E hl9 _ _ _ C => by
  have C : mm_Cx E RX5 cX5_takeAfter 4 (some .int) 3 64 := C
  unfold fX5_takeAfter
  refine r_aload_n C dX5_takeAfter_0 rfl rfl ?_
  refine r_iload_n C dX5_takeAfter_1 rfl rfl ?_
  refine r_bd fun r1 h2 => ?_
  refine r_callVv (As := [.int x1]) (st := []) C (mc_X5_takeWord hk h2) cv_X5_192 hk rfl (Nat.le_of_ble_eq_true rfl) (Nat.le_of_ble_eq_true rfl) rfl (Nat.le_of_ble_eq_true rfl) dX5_takeAfter_2 ?_
  refine r_aload_n C dX5_takeAfter_5 rfl rfl ?_
  refine r_iload_n C dX5_takeAfter_6 rfl rfl ?_
  refine r_iload_n C dX5_takeAfter_7 rfl rfl ?_
  refine r_bd fun r3 h4 => ?_
  refine r_callV (As := [.int x2, .int x3]) (st := []) C (mc_X5_takeNumber hk h4) cv_X5_195 hk rfl (Nat.le_of_ble_eq_true rfl) (Nat.le_of_ble_eq_true rfl) rfl (Nat.le_of_ble_eq_true rfl) dX5_takeAfter_8 ?_
  exact r_iret C dX5_takeAfter_11 rfl
/-! readCloth -/
def fX5_readCloth_b58 (th : Nat)  (x1 : Int32) (P : mm_P) : Option mm_P :=
  if (gI P 648 th) ≤ 0 then
  (mm_gd (mm_in (gI P 647 th) 1002) <|
  mm_gd (mm_in (gI P 657 th) 6) <|
  mm_lt (sL P 655 th (gI P 657 th).toNatClampNeg (gL P 646 th (gI P 647 th).toNatClampNeg)) fun P4 =>
  mm_lt (sI P4 657 th ((gI P4 657 th) + (1 : Int32))) fun P5 =>
  mm_lt (sI P5 647 th ((gI P5 647 th) + (1 : Int32))) fun P6 =>
  mm_lt ((108 : Int32) + ((4 : Int32) * x1)) fun v7 =>
  mm_bd (fX5_takeOne th (16 : Int32) (4 : Int32) P6) fun r8 =>
  mm_gd (mm_in v7 200) <|
  mm_lt (sA r8.2 650 th v7.toNatClampNeg r8.1) fun P11 =>
  mm_bd (fX5_takeAfter th (1 : Int32) (1 : Int32) (20 : Int32) P11) fun r12 =>
  mm_gd (mm_in (v7 + (1 : Int32)) 200) <|
  mm_lt (sA r12.2 650 th (v7 + (1 : Int32)).toNatClampNeg r12.1) fun P15 =>
  mm_bd (fX5_takeAfter th (2 : Int32) (0 : Int32) (20 : Int32) P15) fun r16 =>
  mm_gd (mm_in (v7 + (2 : Int32)) 200) <|
  mm_lt (sA r16.2 650 th (v7 + (2 : Int32)).toNatClampNeg r16.1) fun P19 =>
  mm_bd (fX5_takeAfter th (3 : Int32) (0 : Int32) (99 : Int32) P19) fun r20 =>
  mm_gd (mm_in (v7 + (3 : Int32)) 200) <|
  mm_lt (sA r20.2 650 th (v7 + (3 : Int32)).toNatClampNeg r20.1) fun P23 =>
  mm_gd (mm_in (100 : Int32) 200) <|
  mm_gd (mm_in (100 : Int32) 200) <|
  mm_lt (sA P23 650 th (100 : Int32).toNatClampNeg ((gA P23 650 th (100 : Int32).toNatClampNeg) + (1 : Int32))) fun P26 =>
  some P26)
  else
  (some P)
set_option maxHeartbeats 4000000 in
theorem wfX5_readCloth_b58 {E : mm_E} (C : mm_Cx E RX5 cX5_readCloth 3 none 4 87) {K : mm_K} {th : Nat} (hk : K.1 th = 5) {nx sl : Nat} (x1 : Int32) (P : mm_P) : mm_V E (mm_wwV K nx sl) 58 [some (.ref th), some (.int x1), none] [] K P nx sl (fX5_readCloth_b58 th x1 P) := by
  unfold fX5_readCloth_b58
  refine r_aload_n C dX5_readCloth_58 rfl rfl ?_
  refine r_getI (code := 648) C fl_X5_177 hk rfl dX5_readCloth_59 ?_
  refine r_ifle (tgt := 66) C dX5_readCloth_62 (by decide) (fun h1 => ?_) (fun h1 => ?_)
  · refine r_aload_n C dX5_readCloth_66 rfl rfl ?_
    refine r_getA C fl_X5_101 hk dX5_readCloth_67 ?_
    refine r_aload_n C dX5_readCloth_70 rfl rfl ?_
    refine r_getI (code := 657) C fl_X5_202 hk rfl dX5_readCloth_71 ?_
    refine r_aload_n C dX5_readCloth_74 rfl rfl ?_
    refine r_getA C fl_X5_30 hk dX5_readCloth_75 ?_
    refine r_aload_n C dX5_readCloth_78 rfl rfl ?_
    refine r_getI (code := 647) C fl_X5_174 hk rfl dX5_readCloth_79 ?_
    refine r_lald C (rg_646 hk) rfl dX5_readCloth_82 fun h2 => ?_
    refine r_last C (rg_655 hk) (mm_ro_of (k := 5) hk rfl) rfl dX5_readCloth_83 fun h3 => ?_
    refine r_ltP fun P4 => ?_
    refine r_aload_n C dX5_readCloth_84 rfl rfl ?_
    refine r_dup C dX5_readCloth_85 rfl ?_
    refine r_getI (code := 657) C fl_X5_202 hk rfl dX5_readCloth_86 ?_
    refine r_iconst (v := 1) C dX5_readCloth_89 rfl ?_
    refine r_iadd C dX5_readCloth_90 ?_
    refine r_putI (code := 657) C fl_X5_202 hk rfl rfl dX5_readCloth_91 ?_
    refine r_ltP fun P5 => ?_
    refine r_aload_n C dX5_readCloth_94 rfl rfl ?_
    refine r_dup C dX5_readCloth_95 rfl ?_
    refine r_getI (code := 647) C fl_X5_174 hk rfl dX5_readCloth_96 ?_
    refine r_iconst (v := 1) C dX5_readCloth_99 rfl ?_
    refine r_iadd C dX5_readCloth_100 ?_
    refine r_putI (code := 647) C fl_X5_174 hk rfl rfl dX5_readCloth_101 ?_
    refine r_ltP fun P6 => ?_
    refine r_bipush (v := 108) C dX5_readCloth_104 rfl ?_
    refine r_iconst (v := 4) C dX5_readCloth_106 rfl ?_
    refine r_iload_n C dX5_readCloth_107 rfl rfl ?_
    refine r_imul C dX5_readCloth_108 ?_
    refine r_iadd C dX5_readCloth_109 ?_
    refine r_ltI fun v7 => ?_
    refine r_istore_n (ls' := [some (.ref th), some (.int x1), some (.int v7)]) C dX5_readCloth_110 rfl (Nat.le_of_ble_eq_true rfl) rfl rfl ?_
    refine r_aload_n C dX5_readCloth_111 rfl rfl ?_
    refine r_getA C fl_X5_89 hk dX5_readCloth_112 ?_
    refine r_iload_n C dX5_readCloth_115 rfl rfl ?_
    refine r_aload_n C dX5_readCloth_116 rfl rfl ?_
    refine r_bipush (v := 16) C dX5_readCloth_117 rfl ?_
    refine r_iconst (v := 4) C dX5_readCloth_119 rfl ?_
    refine r_bd fun r8 h9 => ?_
    refine r_callV (As := [.int (16 : Int32), .int (4 : Int32)]) (st := [.int v7, .ref (th + 6)]) C (mc_X5_takeOne hk h9) cv_X5_240 hk rfl (Nat.le_of_ble_eq_true rfl) (Nat.le_of_ble_eq_true rfl) rfl (Nat.le_of_ble_eq_true rfl) dX5_readCloth_120 ?_
    refine r_iast C (rg_650 hk) (mm_ro_of (k := 5) hk rfl) rfl dX5_readCloth_123 fun h10 => ?_
    refine r_ltP fun P11 => ?_
    refine r_aload_n C dX5_readCloth_124 rfl rfl ?_
    refine r_getA C fl_X5_89 hk dX5_readCloth_125 ?_
    refine r_iload_n C dX5_readCloth_128 rfl rfl ?_
    refine r_iconst (v := 1) C dX5_readCloth_129 rfl ?_
    refine r_iadd C dX5_readCloth_130 ?_
    refine r_aload_n C dX5_readCloth_131 rfl rfl ?_
    refine r_iconst (v := 1) C dX5_readCloth_132 rfl ?_
    refine r_iconst (v := 1) C dX5_readCloth_133 rfl ?_
    refine r_bipush (v := 20) C dX5_readCloth_134 rfl ?_
    refine r_bd fun r12 h13 => ?_
    refine r_callV (As := [.int (1 : Int32), .int (1 : Int32), .int (20 : Int32)]) (st := [.int (v7 + (1 : Int32)), .ref (th + 6)]) C (mc_X5_takeAfter hk h13) cv_X5_243 hk rfl (Nat.le_of_ble_eq_true rfl) (Nat.le_of_ble_eq_true rfl) rfl (Nat.le_of_ble_eq_true rfl) dX5_readCloth_136 ?_
    refine r_iast C (rg_650 hk) (mm_ro_of (k := 5) hk rfl) rfl dX5_readCloth_139 fun h14 => ?_
    refine r_ltP fun P15 => ?_
    refine r_aload_n C dX5_readCloth_140 rfl rfl ?_
    refine r_getA C fl_X5_89 hk dX5_readCloth_141 ?_
    refine r_iload_n C dX5_readCloth_144 rfl rfl ?_
    refine r_iconst (v := 2) C dX5_readCloth_145 rfl ?_
    refine r_iadd C dX5_readCloth_146 ?_
    refine r_aload_n C dX5_readCloth_147 rfl rfl ?_
    refine r_iconst (v := 2) C dX5_readCloth_148 rfl ?_
    refine r_iconst (v := 0) C dX5_readCloth_149 rfl ?_
    refine r_bipush (v := 20) C dX5_readCloth_150 rfl ?_
    refine r_bd fun r16 h17 => ?_
    refine r_callV (As := [.int (2 : Int32), .int (0 : Int32), .int (20 : Int32)]) (st := [.int (v7 + (2 : Int32)), .ref (th + 6)]) C (mc_X5_takeAfter hk h17) cv_X5_243 hk rfl (Nat.le_of_ble_eq_true rfl) (Nat.le_of_ble_eq_true rfl) rfl (Nat.le_of_ble_eq_true rfl) dX5_readCloth_152 ?_
    refine r_iast C (rg_650 hk) (mm_ro_of (k := 5) hk rfl) rfl dX5_readCloth_155 fun h18 => ?_
    refine r_ltP fun P19 => ?_
    refine r_aload_n C dX5_readCloth_156 rfl rfl ?_
    refine r_getA C fl_X5_89 hk dX5_readCloth_157 ?_
    refine r_iload_n C dX5_readCloth_160 rfl rfl ?_
    refine r_iconst (v := 3) C dX5_readCloth_161 rfl ?_
    refine r_iadd C dX5_readCloth_162 ?_
    refine r_aload_n C dX5_readCloth_163 rfl rfl ?_
    refine r_iconst (v := 3) C dX5_readCloth_164 rfl ?_
    refine r_iconst (v := 0) C dX5_readCloth_165 rfl ?_
    refine r_bipush (v := 99) C dX5_readCloth_166 rfl ?_
    refine r_bd fun r20 h21 => ?_
    refine r_callV (As := [.int (3 : Int32), .int (0 : Int32), .int (99 : Int32)]) (st := [.int (v7 + (3 : Int32)), .ref (th + 6)]) C (mc_X5_takeAfter hk h21) cv_X5_243 hk rfl (Nat.le_of_ble_eq_true rfl) (Nat.le_of_ble_eq_true rfl) rfl (Nat.le_of_ble_eq_true rfl) dX5_readCloth_168 ?_
    refine r_iast C (rg_650 hk) (mm_ro_of (k := 5) hk rfl) rfl dX5_readCloth_171 fun h22 => ?_
    refine r_ltP fun P23 => ?_
    refine r_aload_n C dX5_readCloth_172 rfl rfl ?_
    refine r_getA C fl_X5_89 hk dX5_readCloth_173 ?_
    refine r_bipush (v := 100) C dX5_readCloth_176 rfl ?_
    refine r_dup2_11 C dX5_readCloth_178 rfl rfl ?_
    refine r_iald C (rg_650 hk) rfl dX5_readCloth_179 fun h24 => ?_
    refine r_iconst (v := 1) C dX5_readCloth_180 rfl ?_
    refine r_iadd C dX5_readCloth_181 ?_
    refine r_iast C (rg_650 hk) (mm_ro_of (k := 5) hk rfl) rfl dX5_readCloth_182 fun h25 => ?_
    refine r_ltP fun P26 => ?_
    exact r_vret C dX5_readCloth_183 rfl
  · exact r_vret C dX5_readCloth_65 rfl
def fX5_readCloth (th : Nat)  (P : mm_P) : Option mm_P :=
  mm_gd (mm_in (100 : Int32) 200) <|
  mm_lt (gA P 650 th (100 : Int32).toNatClampNeg) fun v2 =>
  if v2 ≠ (6 : Int32) then
  (mm_lt (sI P 647 th ((gI P 647 th) + (1 : Int32))) fun P4 =>
  mm_bd (fX5_isName th P4) fun r5 =>
  if r5 ≠ 0 then
  (mm_bd (fX5_find th P4 (1 : Int32)) fun r8 =>
  if r8 < 0 then
  (fX5_readCloth_b58 th v2 P4)
  else
  (mm_bd (fX5_wrong th (3 : Int32) P4) fun r11 =>
  fX5_readCloth_b58 th v2 r11))
  else
  (mm_bd (fX5_wrong th (1 : Int32) P4) fun r13 =>
  fX5_readCloth_b58 th v2 r13))
  else
  (mm_bd (fX5_wrong th (5 : Int32) P) fun r15 =>
  some r15)
set_option maxHeartbeats 4000000 in
theorem mc_X5_readCloth {l : Launch} {K : mm_K} {P : mm_P} {th : Nat}  {nx sl : Nat} {r : mm_P} (hk : K.1 th = 5) (h : fX5_readCloth th P = some r) : mm_C l yX5_readCloth (ws_ yX5_readCloth cX5_readCloth 3 none) 4 87 [.ref th] K P nx sl (mm_wwV K nx sl r) :=
  mm_start (ls := [some (.ref th), none, none]) h (by decide) (Nat.le_of_ble_eq_true rfl) rfl (Nat.le_refl _) (Nat.le_refl _) rfl fun E hl9 _ _ _ C => by
  have C : mm_Cx E RX5 cX5_readCloth 3 none 4 87 := C
  unfold fX5_readCloth
  refine r_aload_n C dX5_readCloth_0 rfl rfl ?_
  refine r_getA C fl_X5_89 hk dX5_readCloth_1 ?_
  refine r_bipush (v := 100) C dX5_readCloth_4 rfl ?_
  refine r_iald C (rg_650 hk) rfl dX5_readCloth_6 fun h1 => ?_
  refine r_ltI fun v2 => ?_
  refine r_istore_n (ls' := [some (.ref th), some (.int v2), none]) C dX5_readCloth_7 rfl (Nat.le_of_ble_eq_true rfl) rfl rfl ?_
  refine r_iload_n C dX5_readCloth_8 rfl rfl ?_
  refine r_bipush (v := 6) C dX5_readCloth_9 rfl ?_
  refine r_icmpne (tgt := 20) C dX5_readCloth_11 (by decide) (fun h3 => ?_) (fun h3 => ?_)
  · refine r_aload_n C dX5_readCloth_20 rfl rfl ?_
    refine r_dup C dX5_readCloth_21 rfl ?_
    refine r_getI (code := 647) C fl_X5_174 hk rfl dX5_readCloth_22 ?_
    refine r_iconst (v := 1) C dX5_readCloth_25 rfl ?_
    refine r_iadd C dX5_readCloth_26 ?_
    refine r_putI (code := 647) C fl_X5_174 hk rfl rfl dX5_readCloth_27 ?_
    refine r_ltP fun P4 => ?_
    refine r_aload_n C dX5_readCloth_30 rfl rfl ?_
    refine r_bd fun r5 h6 => ?_
    refine r_callV (As := []) (st := []) C (mc_X5_isName hk h6) cv_X5_208 hk rfl (Nat.le_of_ble_eq_true rfl) (Nat.le_of_ble_eq_true rfl) rfl (Nat.le_of_ble_eq_true rfl) dX5_readCloth_31 ?_
    refine r_ifne (tgt := 45) C dX5_readCloth_34 (by decide) (fun h7 => ?_) (fun h7 => ?_)
    · refine r_aload_n C dX5_readCloth_45 rfl rfl ?_
      refine r_iconst (v := 1) C dX5_readCloth_46 rfl ?_
      refine r_bd fun r8 h9 => ?_
      refine r_callV (As := [.int (1 : Int32)]) (st := []) C (mc_X5_find hk h9) cv_X5_212 hk rfl (Nat.le_of_ble_eq_true rfl) (Nat.le_of_ble_eq_true rfl) rfl (Nat.le_of_ble_eq_true rfl) dX5_readCloth_47 ?_
      refine r_iflt (tgt := 58) C dX5_readCloth_50 (by decide) (fun h10 => ?_) (fun h10 => ?_)
      · exact wfX5_readCloth_b58 C hk v2 P4
      · refine r_aload_n C dX5_readCloth_53 rfl rfl ?_
        refine r_iconst (v := 3) C dX5_readCloth_54 rfl ?_
        refine r_bd fun r11 h12 => ?_
        refine r_callVv (As := [.int (3 : Int32)]) (st := []) C (mc_X5_wrong hk h12) cv_X5_183 hk rfl (Nat.le_of_ble_eq_true rfl) (Nat.le_of_ble_eq_true rfl) rfl (Nat.le_of_ble_eq_true rfl) dX5_readCloth_55 ?_
        exact wfX5_readCloth_b58 C hk v2 r11
    · refine r_aload_n C dX5_readCloth_37 rfl rfl ?_
      refine r_iconst (v := 1) C dX5_readCloth_38 rfl ?_
      refine r_bd fun r13 h14 => ?_
      refine r_callVv (As := [.int (1 : Int32)]) (st := []) C (mc_X5_wrong hk h14) cv_X5_183 hk rfl (Nat.le_of_ble_eq_true rfl) (Nat.le_of_ble_eq_true rfl) rfl (Nat.le_of_ble_eq_true rfl) dX5_readCloth_39 ?_
      refine r_goto (tgt := 58) C dX5_readCloth_42 (by decide) ?_
      exact wfX5_readCloth_b58 C hk v2 r13
  · refine r_aload_n C dX5_readCloth_14 rfl rfl ?_
    refine r_iconst (v := 5) C dX5_readCloth_15 rfl ?_
    refine r_bd fun r15 h16 => ?_
    refine r_callVv (As := [.int (5 : Int32)]) (st := []) C (mc_X5_wrong hk h16) cv_X5_183 hk rfl (Nat.le_of_ble_eq_true rfl) (Nat.le_of_ble_eq_true rfl) rfl (Nat.le_of_ble_eq_true rfl) dX5_readCloth_16 ?_
    exact r_vret C dX5_readCloth_19 rfl
/-! toldHere -/
def fX5_toldHere_b52 (th : Nat)  (x2 : Int32) (P : mm_P) : Option (Int32 × mm_P) :=
  if (gI P 648 th) ≤ 0 then
  (some (x2, P))
  else
  (some ((0 : Int32), P))
set_option maxHeartbeats 4000000 in
theorem wfX5_toldHere_b52 {E : mm_E} (C : mm_Cx E RX5 cX5_toldHere 3 (some .int) 3 65) {K : mm_K} {th : Nat} (hk : K.1 th = 5) {nx sl : Nat} (x2 : Int32) (P : mm_P) : mm_V E (mm_wwI K nx sl) 52 [some (.ref th), none, some (.int x2)] [] K P nx sl (fX5_toldHere_b52 th x2 P) := by
  unfold fX5_toldHere_b52
  refine r_aload_n C dX5_toldHere_52 rfl rfl ?_
  refine r_getI (code := 648) C fl_X5_177 hk rfl dX5_toldHere_53 ?_
  refine r_ifle (tgt := 63) C dX5_toldHere_56 (by decide) (fun h1 => ?_) (fun h1 => ?_)
  · refine r_iload_n C dX5_toldHere_63 rfl rfl ?_
    exact r_iret C dX5_toldHere_64 rfl
  · refine r_iconst (v := 0) C dX5_toldHere_59 rfl ?_
    refine r_goto (tgt := 64) C dX5_toldHere_60 (by decide) ?_
    exact r_iret C dX5_toldHere_64 rfl
def fX5_toldHere_b35 (th : Nat)  (s0 : Int32) (P : mm_P) : Option (Int32 × mm_P) :=
  if (gI P 648 th) ≠ 0 then
  (fX5_toldHere_b52 th s0 P)
  else
  (if 0 ≤ s0 then
  (fX5_toldHere_b52 th s0 P)
  else
  (mm_bd (fX5_wrong th (2 : Int32) P) fun r3 =>
  fX5_toldHere_b52 th s0 r3))
set_option maxHeartbeats 4000000 in
theorem wfX5_toldHere_b35 {E : mm_E} (C : mm_Cx E RX5 cX5_toldHere 3 (some .int) 3 65) {K : mm_K} {th : Nat} (hk : K.1 th = 5) {nx sl : Nat} (s0 : Int32) (P : mm_P) : mm_V E (mm_wwI K nx sl) 35 [some (.ref th), none, none] [.int s0] K P nx sl (fX5_toldHere_b35 th s0 P) := by
  unfold fX5_toldHere_b35
  refine r_istore_n (ls' := [some (.ref th), none, some (.int s0)]) C dX5_toldHere_35 rfl (Nat.le_of_ble_eq_true rfl) rfl rfl ?_
  refine r_aload_n C dX5_toldHere_36 rfl rfl ?_
  refine r_getI (code := 648) C fl_X5_177 hk rfl dX5_toldHere_37 ?_
  refine r_ifne (tgt := 52) C dX5_toldHere_40 (by decide) (fun h1 => ?_) (fun h1 => ?_)
  · exact wfX5_toldHere_b52 C hk s0 P
  · refine r_iload_n C dX5_toldHere_43 rfl rfl ?_
    refine r_ifge (tgt := 52) C dX5_toldHere_44 (by decide) (fun h2 => ?_) (fun h2 => ?_)
    · exact wfX5_toldHere_b52 C hk s0 P
    · refine r_aload_n C dX5_toldHere_47 rfl rfl ?_
      refine r_iconst (v := 2) C dX5_toldHere_48 rfl ?_
      refine r_bd fun r3 h4 => ?_
      refine r_callVv (As := [.int (2 : Int32)]) (st := []) C (mc_X5_wrong hk h4) cv_X5_183 hk rfl (Nat.le_of_ble_eq_true rfl) (Nat.le_of_ble_eq_true rfl) rfl (Nat.le_of_ble_eq_true rfl) dX5_toldHere_49 ?_
      exact wfX5_toldHere_b52 C hk s0 r3
def fX5_toldHere_b19 (th : Nat)  (x1 : Int32) (P : mm_P) : Option (Int32 × mm_P) :=
  if (gI P 648 th) ≤ 0 then
  (mm_bd (fX5_find th P x1) fun r2 =>
  fX5_toldHere_b35 th r2 P)
  else
  (fX5_toldHere_b35 th (-1 : Int32) P)
set_option maxHeartbeats 4000000 in
theorem wfX5_toldHere_b19 {E : mm_E} (C : mm_Cx E RX5 cX5_toldHere 3 (some .int) 3 65) {K : mm_K} {th : Nat} (hk : K.1 th = 5) {nx sl : Nat} (x1 : Int32) (P : mm_P) : mm_V E (mm_wwI K nx sl) 19 [some (.ref th), some (.int x1), none] [] K P nx sl (fX5_toldHere_b19 th x1 P) := by
  unfold fX5_toldHere_b19
  refine r_aload_n C dX5_toldHere_19 rfl rfl ?_
  refine r_getI (code := 648) C fl_X5_177 hk rfl dX5_toldHere_20 ?_
  refine r_ifle (tgt := 30) C dX5_toldHere_23 (by decide) (fun h1 => ?_) (fun h1 => ?_)
  · refine r_aload_n C dX5_toldHere_30 rfl rfl ?_
    refine r_iload_n C dX5_toldHere_31 rfl rfl ?_
    refine r_bd fun r2 h3 => ?_
    refine r_callV (As := [.int x1]) (st := []) C (mc_X5_find hk h3) cv_X5_212 hk rfl (Nat.le_of_ble_eq_true rfl) (Nat.le_of_ble_eq_true rfl) rfl (Nat.le_of_ble_eq_true rfl) dX5_toldHere_32 ?_
    refine r_mask [true, false, true] (ls' := [some (.ref th), none, none]) rfl ?_
    exact wfX5_toldHere_b35 C hk r2 P
  · refine r_iconst (v := -1) C dX5_toldHere_26 rfl ?_
    refine r_goto (tgt := 35) C dX5_toldHere_27 (by decide) ?_
    refine r_mask [true, false, true] (ls' := [some (.ref th), none, none]) rfl ?_
    exact wfX5_toldHere_b35 C hk (-1 : Int32) P
def fX5_toldHere (th : Nat) (x1 : Int32) (P : mm_P) : Option (Int32 × mm_P) :=
  if (gI P 648 th) ≠ 0 then
  (fX5_toldHere_b19 th x1 P)
  else
  (mm_bd (fX5_isName th P) fun r2 =>
  if r2 ≠ 0 then
  (fX5_toldHere_b19 th x1 P)
  else
  (mm_bd (fX5_wrong th (1 : Int32) P) fun r5 =>
  fX5_toldHere_b19 th x1 r5))
set_option maxHeartbeats 4000000 in
theorem mc_X5_toldHere {l : Launch} {K : mm_K} {P : mm_P} {th : Nat} {x1 : Int32} {nx sl : Nat} {r : (Int32 × mm_P)} (hk : K.1 th = 5) (h : fX5_toldHere th x1 P = some r) : mm_C l yX5_toldHere (ws_ yX5_toldHere cX5_toldHere 3 (some .int)) 3 65 [.ref th, .int x1] K P nx sl (mm_wwI K nx sl r) :=
  mm_start (ls := [some (.ref th), some (.int x1), none]) h (by decide) (Nat.le_of_ble_eq_true rfl) rfl (Nat.le_refl _) (Nat.le_refl _) rfl fun E hl9 _ _ _ C => by
  have C : mm_Cx E RX5 cX5_toldHere 3 (some .int) 3 65 := C
  unfold fX5_toldHere
  refine r_aload_n C dX5_toldHere_0 rfl rfl ?_
  refine r_getI (code := 648) C fl_X5_177 hk rfl dX5_toldHere_1 ?_
  refine r_ifne (tgt := 19) C dX5_toldHere_4 (by decide) (fun h1 => ?_) (fun h1 => ?_)
  · exact wfX5_toldHere_b19 C hk x1 P
  · refine r_aload_n C dX5_toldHere_7 rfl rfl ?_
    refine r_bd fun r2 h3 => ?_
    refine r_callV (As := []) (st := []) C (mc_X5_isName hk h3) cv_X5_208 hk rfl (Nat.le_of_ble_eq_true rfl) (Nat.le_of_ble_eq_true rfl) rfl (Nat.le_of_ble_eq_true rfl) dX5_toldHere_8 ?_
    refine r_ifne (tgt := 19) C dX5_toldHere_11 (by decide) (fun h4 => ?_) (fun h4 => ?_)
    · exact wfX5_toldHere_b19 C hk x1 P
    · refine r_aload_n C dX5_toldHere_14 rfl rfl ?_
      refine r_iconst (v := 1) C dX5_toldHere_15 rfl ?_
      refine r_bd fun r5 h6 => ?_
      refine r_callVv (As := [.int (1 : Int32)]) (st := []) C (mc_X5_wrong hk h6) cv_X5_183 hk rfl (Nat.le_of_ble_eq_true rfl) (Nat.le_of_ble_eq_true rfl) rfl (Nat.le_of_ble_eq_true rfl) dX5_toldHere_16 ?_
      exact wfX5_toldHere_b19 C hk x1 r5
/-! takeTold -/
def fX5_takeTold (th : Nat) (x1 : Int32) (P : mm_P) : Option (Int32 × mm_P) :=
  mm_bd (fX5_toldHere th x1 P) fun r1 =>
  if (gI r1.2 648 th) ≤ 0 then
  (mm_lt (sI r1.2 647 th ((gI r1.2 647 th) + (1 : Int32))) fun P4 =>
  some (r1.1, P4))
  else
  (mm_lt (sI r1.2 647 th ((gI r1.2 647 th) + (0 : Int32))) fun P5 =>
  some (r1.1, P5))
set_option maxHeartbeats 4000000 in
theorem mc_X5_takeTold {l : Launch} {K : mm_K} {P : mm_P} {th : Nat} {x1 : Int32} {nx sl : Nat} {r : (Int32 × mm_P)} (hk : K.1 th = 5) (h : fX5_takeTold th x1 P = some r) : mm_C l yX5_takeTold (ws_ yX5_takeTold cX5_takeTold 3 (some .int)) 4 87 [.ref th, .int x1] K P nx sl (mm_wwI K nx sl r) :=
  mm_start (ls := [some (.ref th), some (.int x1), none]) h (by decide) (Nat.le_of_ble_eq_true rfl) rfl (Nat.le_refl _) (Nat.le_refl _) rfl fun E hl9 _ _ _ C => by
  have C : mm_Cx E RX5 cX5_takeTold 3 (some .int) 4 87 := C
  unfold fX5_takeTold
  refine r_aload_n C dX5_takeTold_0 rfl rfl ?_
  refine r_iload_n C dX5_takeTold_1 rfl rfl ?_
  refine r_bd fun r1 h2 => ?_
  refine r_callV (As := [.int x1]) (st := []) C (mc_X5_toldHere hk h2) cv_X5_216 hk rfl (Nat.le_of_ble_eq_true rfl) (Nat.le_of_ble_eq_true rfl) rfl (Nat.le_of_ble_eq_true rfl) dX5_takeTold_2 ?_
  refine r_istore_n (ls' := [some (.ref th), some (.int x1), some (.int r1.1)]) C dX5_takeTold_5 rfl (Nat.le_of_ble_eq_true rfl) rfl rfl ?_
  refine r_aload_n C dX5_takeTold_6 rfl rfl ?_
  refine r_dup C dX5_takeTold_7 rfl ?_
  refine r_getI (code := 647) C fl_X5_174 hk rfl dX5_takeTold_8 ?_
  refine r_aload_n C dX5_takeTold_11 rfl rfl ?_
  refine r_getI (code := 648) C fl_X5_177 hk rfl dX5_takeTold_12 ?_
  refine r_ifle (tgt := 22) C dX5_takeTold_15 (by decide) (fun h3 => ?_) (fun h3 => ?_)
  · refine r_iconst (v := 1) C dX5_takeTold_22 rfl ?_
    refine r_iadd C dX5_takeTold_23 ?_
    refine r_putI (code := 647) C fl_X5_174 hk rfl rfl dX5_takeTold_24 ?_
    refine r_ltP fun P4 => ?_
    refine r_iload_n C dX5_takeTold_27 rfl rfl ?_
    exact r_iret C dX5_takeTold_28 rfl
  · refine r_iconst (v := 0) C dX5_takeTold_18 rfl ?_
    refine r_goto (tgt := 23) C dX5_takeTold_19 (by decide) ?_
    refine r_iadd C dX5_takeTold_23 ?_
    refine r_putI (code := 647) C fl_X5_174 hk rfl rfl dX5_takeTold_24 ?_
    refine r_ltP fun P5 => ?_
    refine r_iload_n C dX5_takeTold_27 rfl rfl ?_
    exact r_iret C dX5_takeTold_28 rfl
/-! readClash -/
def fX5_readClash_b58 (th : Nat)  (x1 : Int32) (x2 : Int32) (P : mm_P) : Option mm_P :=
  if (gI P 648 th) ≠ 0 then
  (some P)
  else
  (mm_lt (sI P 647 th ((gI P 647 th) + (1 : Int32))) fun P2 =>
  mm_gd (mm_in (((132 : Int32) + ((6 : Int32) * x1)) + x2) 200) <|
  mm_lt (sA P2 650 th (((132 : Int32) + ((6 : Int32) * x1)) + x2).toNatClampNeg (1 : Int32)) fun P4 =>
  mm_gd (mm_in (((132 : Int32) + ((6 : Int32) * x2)) + x1) 200) <|
  mm_lt (sA P4 650 th (((132 : Int32) + ((6 : Int32) * x2)) + x1).toNatClampNeg (1 : Int32)) fun P6 =>
  mm_gd (mm_in (105 : Int32) 200) <|
  mm_gd (mm_in (105 : Int32) 200) <|
  mm_lt (sA P6 650 th (105 : Int32).toNatClampNeg ((gA P6 650 th (105 : Int32).toNatClampNeg) + (1 : Int32))) fun P9 =>
  some P9)
set_option maxHeartbeats 4000000 in
theorem wfX5_readClash_b58 {E : mm_E} (C : mm_Cx E RX5 cX5_readClash 3 none 5 109) {K : mm_K} {th : Nat} (hk : K.1 th = 5) {nx sl : Nat} (x1 : Int32) (x2 : Int32) (P : mm_P) : mm_V E (mm_wwV K nx sl) 58 [some (.ref th), some (.int x1), some (.int x2)] [] K P nx sl (fX5_readClash_b58 th x1 x2 P) := by
  unfold fX5_readClash_b58
  refine r_aload_n C dX5_readClash_58 rfl rfl ?_
  refine r_getI (code := 648) C fl_X5_177 hk rfl dX5_readClash_59 ?_
  refine r_ifne (tgt := 118) C dX5_readClash_62 (by decide) (fun h1 => ?_) (fun h1 => ?_)
  · exact r_vret C dX5_readClash_118 rfl
  · refine r_aload_n C dX5_readClash_65 rfl rfl ?_
    refine r_dup C dX5_readClash_66 rfl ?_
    refine r_getI (code := 647) C fl_X5_174 hk rfl dX5_readClash_67 ?_
    refine r_iconst (v := 1) C dX5_readClash_70 rfl ?_
    refine r_iadd C dX5_readClash_71 ?_
    refine r_putI (code := 647) C fl_X5_174 hk rfl rfl dX5_readClash_72 ?_
    refine r_ltP fun P2 => ?_
    refine r_aload_n C dX5_readClash_75 rfl rfl ?_
    refine r_getA C fl_X5_89 hk dX5_readClash_76 ?_
    refine r_sipush (v := 132) C dX5_readClash_79 rfl ?_
    refine r_bipush (v := 6) C dX5_readClash_82 rfl ?_
    refine r_iload_n C dX5_readClash_84 rfl rfl ?_
    refine r_imul C dX5_readClash_85 ?_
    refine r_iadd C dX5_readClash_86 ?_
    refine r_iload_n C dX5_readClash_87 rfl rfl ?_
    refine r_iadd C dX5_readClash_88 ?_
    refine r_iconst (v := 1) C dX5_readClash_89 rfl ?_
    refine r_iast C (rg_650 hk) (mm_ro_of (k := 5) hk rfl) rfl dX5_readClash_90 fun h3 => ?_
    refine r_ltP fun P4 => ?_
    refine r_aload_n C dX5_readClash_91 rfl rfl ?_
    refine r_getA C fl_X5_89 hk dX5_readClash_92 ?_
    refine r_sipush (v := 132) C dX5_readClash_95 rfl ?_
    refine r_bipush (v := 6) C dX5_readClash_98 rfl ?_
    refine r_iload_n C dX5_readClash_100 rfl rfl ?_
    refine r_imul C dX5_readClash_101 ?_
    refine r_iadd C dX5_readClash_102 ?_
    refine r_iload_n C dX5_readClash_103 rfl rfl ?_
    refine r_iadd C dX5_readClash_104 ?_
    refine r_iconst (v := 1) C dX5_readClash_105 rfl ?_
    refine r_iast C (rg_650 hk) (mm_ro_of (k := 5) hk rfl) rfl dX5_readClash_106 fun h5 => ?_
    refine r_ltP fun P6 => ?_
    refine r_aload_n C dX5_readClash_107 rfl rfl ?_
    refine r_getA C fl_X5_89 hk dX5_readClash_108 ?_
    refine r_bipush (v := 105) C dX5_readClash_111 rfl ?_
    refine r_dup2_11 C dX5_readClash_113 rfl rfl ?_
    refine r_iald C (rg_650 hk) rfl dX5_readClash_114 fun h7 => ?_
    refine r_iconst (v := 1) C dX5_readClash_115 rfl ?_
    refine r_iadd C dX5_readClash_116 ?_
    refine r_iast C (rg_650 hk) (mm_ro_of (k := 5) hk rfl) rfl dX5_readClash_117 fun h8 => ?_
    refine r_ltP fun P9 => ?_
    exact r_vret C dX5_readClash_118 rfl
def fX5_readClash_b53 (th : Nat)  (x1 : Int32) (x2 : Int32) (P : mm_P) : Option mm_P :=
  mm_bd (fX5_wrong th (3 : Int32) P) fun r1 =>
  fX5_readClash_b58 th x1 x2 r1
set_option maxHeartbeats 4000000 in
theorem wfX5_readClash_b53 {E : mm_E} (C : mm_Cx E RX5 cX5_readClash 3 none 5 109) {K : mm_K} {th : Nat} (hk : K.1 th = 5) {nx sl : Nat} (x1 : Int32) (x2 : Int32) (P : mm_P) : mm_V E (mm_wwV K nx sl) 53 [some (.ref th), some (.int x1), some (.int x2)] [] K P nx sl (fX5_readClash_b53 th x1 x2 P) := by
  unfold fX5_readClash_b53
  refine r_aload_n C dX5_readClash_53 rfl rfl ?_
  refine r_iconst (v := 3) C dX5_readClash_54 rfl ?_
  refine r_bd fun r1 h2 => ?_
  refine r_callVv (As := [.int (3 : Int32)]) (st := []) C (mc_X5_wrong hk h2) cv_X5_183 hk rfl (Nat.le_of_ble_eq_true rfl) (Nat.le_of_ble_eq_true rfl) rfl (Nat.le_of_ble_eq_true rfl) dX5_readClash_55 ?_
  exact wfX5_readClash_b58 C hk x1 x2 r1
def fX5_readClash (th : Nat)  (P : mm_P) : Option mm_P :=
  mm_lt (sI P 647 th ((gI P 647 th) + (1 : Int32))) fun P1 =>
  mm_bd (fX5_takeTold th (1 : Int32) P1) fun r2 =>
  mm_bd (fX5_toldHere th (1 : Int32) r2.2) fun r4 =>
  if (gI r4.2 648 th) ≠ 0 then
  (fX5_readClash_b58 th r2.1 r4.1 r4.2)
  else
  (if r2.1 = r4.1 then
  (fX5_readClash_b53 th r2.1 r4.1 r4.2)
  else
  (mm_gd (mm_in (((132 : Int32) + ((6 : Int32) * r2.1)) + r4.1) 200) <|
  if (gA r4.2 650 th (((132 : Int32) + ((6 : Int32) * r2.1)) + r4.1).toNatClampNeg) ≠ (1 : Int32) then
  (fX5_readClash_b58 th r2.1 r4.1 r4.2)
  else
  (fX5_readClash_b53 th r2.1 r4.1 r4.2)))
set_option maxHeartbeats 4000000 in
theorem mc_X5_readClash {l : Launch} {K : mm_K} {P : mm_P} {th : Nat}  {nx sl : Nat} {r : mm_P} (hk : K.1 th = 5) (h : fX5_readClash th P = some r) : mm_C l yX5_readClash (ws_ yX5_readClash cX5_readClash 3 none) 5 109 [.ref th] K P nx sl (mm_wwV K nx sl r) :=
  mm_start (ls := [some (.ref th), none, none]) h (by decide) (Nat.le_of_ble_eq_true rfl) rfl (Nat.le_refl _) (Nat.le_refl _) rfl fun E hl9 _ _ _ C => by
  have C : mm_Cx E RX5 cX5_readClash 3 none 5 109 := C
  unfold fX5_readClash
  refine r_aload_n C dX5_readClash_0 rfl rfl ?_
  refine r_dup C dX5_readClash_1 rfl ?_
  refine r_getI (code := 647) C fl_X5_174 hk rfl dX5_readClash_2 ?_
  refine r_iconst (v := 1) C dX5_readClash_5 rfl ?_
  refine r_iadd C dX5_readClash_6 ?_
  refine r_putI (code := 647) C fl_X5_174 hk rfl rfl dX5_readClash_7 ?_
  refine r_ltP fun P1 => ?_
  refine r_aload_n C dX5_readClash_10 rfl rfl ?_
  refine r_iconst (v := 1) C dX5_readClash_11 rfl ?_
  refine r_bd fun r2 h3 => ?_
  refine r_callV (As := [.int (1 : Int32)]) (st := []) C (mc_X5_takeTold hk h3) cv_X5_247 hk rfl (Nat.le_of_ble_eq_true rfl) (Nat.le_of_ble_eq_true rfl) rfl (Nat.le_of_ble_eq_true rfl) dX5_readClash_12 ?_
  refine r_istore_n (ls' := [some (.ref th), some (.int r2.1), none]) C dX5_readClash_15 rfl (Nat.le_of_ble_eq_true rfl) rfl rfl ?_
  refine r_aload_n C dX5_readClash_16 rfl rfl ?_
  refine r_iconst (v := 1) C dX5_readClash_17 rfl ?_
  refine r_bd fun r4 h5 => ?_
  refine r_callV (As := [.int (1 : Int32)]) (st := []) C (mc_X5_toldHere hk h5) cv_X5_216 hk rfl (Nat.le_of_ble_eq_true rfl) (Nat.le_of_ble_eq_true rfl) rfl (Nat.le_of_ble_eq_true rfl) dX5_readClash_18 ?_
  refine r_istore_n (ls' := [some (.ref th), some (.int r2.1), some (.int r4.1)]) C dX5_readClash_21 rfl (Nat.le_of_ble_eq_true rfl) rfl rfl ?_
  refine r_aload_n C dX5_readClash_22 rfl rfl ?_
  refine r_getI (code := 648) C fl_X5_177 hk rfl dX5_readClash_23 ?_
  refine r_ifne (tgt := 58) C dX5_readClash_26 (by decide) (fun h6 => ?_) (fun h6 => ?_)
  · exact wfX5_readClash_b58 C hk r2.1 r4.1 r4.2
  · refine r_iload_n C dX5_readClash_29 rfl rfl ?_
    refine r_iload_n C dX5_readClash_30 rfl rfl ?_
    refine r_icmpeq (tgt := 53) C dX5_readClash_31 (by decide) (fun h7 => ?_) (fun h7 => ?_)
    · exact wfX5_readClash_b53 C hk r2.1 r4.1 r4.2
    · refine r_aload_n C dX5_readClash_34 rfl rfl ?_
      refine r_getA C fl_X5_89 hk dX5_readClash_35 ?_
      refine r_sipush (v := 132) C dX5_readClash_38 rfl ?_
      refine r_bipush (v := 6) C dX5_readClash_41 rfl ?_
      refine r_iload_n C dX5_readClash_43 rfl rfl ?_
      refine r_imul C dX5_readClash_44 ?_
      refine r_iadd C dX5_readClash_45 ?_
      refine r_iload_n C dX5_readClash_46 rfl rfl ?_
      refine r_iadd C dX5_readClash_47 ?_
      refine r_iald C (rg_650 hk) rfl dX5_readClash_48 fun h8 => ?_
      refine r_iconst (v := 1) C dX5_readClash_49 rfl ?_
      refine r_icmpne (tgt := 58) C dX5_readClash_50 (by decide) (fun h9 => ?_) (fun h9 => ?_)
      · exact wfX5_readClash_b58 C hk r2.1 r4.1 r4.2
      · exact wfX5_readClash_b53 C hk r2.1 r4.1 r4.2
/-! readRow -/
def fX5_readRow_b68 (th : Nat) (k3 : Int32 → Int32 → Int32 → Int32 → mm_P → Option (Int32 × mm_P)) (x1 : Int32) (x2 : Int32) (x3 : Int32) (x4 : Int32) (x5 : Int32) (P : mm_P) : Option (Int32 × mm_P) :=
  if (gI P 648 th) ≠ 0 then
  (k3 x1 x2 x3 x4 P)
  else
  (mm_gd (mm_in (((100 : Int32) + x1) + x4) 200) <|
  mm_lt (sA P 650 th (((100 : Int32) + x1) + x4).toNatClampNeg x5) fun P3 =>
  k3 x1 x2 x3 (x4 + (1 : Int32)) P3)
set_option maxHeartbeats 4000000 in
theorem wfX5_readRow_b68 {E : mm_E} (C : mm_Cx E RX5 cX5_readRow 6 (some .int) 2 43) {K : mm_K} {th : Nat} (hk : K.1 th = 5) {nx sl : Nat} {k3 : Int32 → Int32 → Int32 → Int32 → mm_P → Option (Int32 × mm_P)} (hk3 : ∀ (x1 : Int32) (x2 : Int32) (x3 : Int32) (x4 : Int32) (P : mm_P), mm_V E (mm_wwI K nx sl) 3 [some (.ref th), some (.int x1), some (.int x2), some (.int x3), some (.int x4), none] [] K P nx sl (k3 x1 x2 x3 x4 P)) (x1 : Int32) (x2 : Int32) (x3 : Int32) (x4 : Int32) (x5 : Int32) (P : mm_P) : mm_V E (mm_wwI K nx sl) 68 [some (.ref th), some (.int x1), some (.int x2), some (.int x3), some (.int x4), some (.int x5)] [] K P nx sl (fX5_readRow_b68 th k3 x1 x2 x3 x4 x5 P) := by
  unfold fX5_readRow_b68
  refine r_aload_n C dX5_readRow_68 rfl rfl ?_
  refine r_getI (code := 648) C fl_X5_177 hk rfl dX5_readRow_69 ?_
  refine r_ifne (tgt := 92) C dX5_readRow_72 (by decide) (fun h1 => ?_) (fun h1 => ?_)
  · refine r_goto (tgt := 3) C dX5_readRow_92 (by decide) ?_
    refine r_mask [true, true, true, true, true, false] (ls' := [some (.ref th), some (.int x1), some (.int x2), some (.int x3), some (.int x4), none]) rfl ?_
    exact hk3 x1 x2 x3 x4 P
  · refine r_aload_n C dX5_readRow_75 rfl rfl ?_
    refine r_getA C fl_X5_89 hk dX5_readRow_76 ?_
    refine r_bipush (v := 100) C dX5_readRow_79 rfl ?_
    refine r_iload_n C dX5_readRow_81 rfl rfl ?_
    refine r_iadd C dX5_readRow_82 ?_
    refine r_iload C dX5_readRow_83 rfl ?_
    refine r_iadd C dX5_readRow_85 ?_
    refine r_iload C dX5_readRow_86 rfl ?_
    refine r_iast C (rg_650 hk) (mm_ro_of (k := 5) hk rfl) rfl dX5_readRow_88 fun h2 => ?_
    refine r_ltP fun P3 => ?_
    refine r_iinc (v := 1) (ls' := [some (.ref th), some (.int x1), some (.int x2), some (.int x3), some (.int (x4 + (1 : Int32))), some (.int x5)]) C dX5_readRow_89 rfl rfl (Nat.le_of_ble_eq_true rfl) rfl rfl ?_
    refine r_goto (tgt := 3) C dX5_readRow_92 (by decide) ?_
    refine r_mask [true, true, true, true, true, false] (ls' := [some (.ref th), some (.int x1), some (.int x2), some (.int x3), some (.int (x4 + (1 : Int32))), none]) rfl ?_
    exact hk3 x1 x2 x3 (x4 + (1 : Int32)) P3
def fX5_readRow_b28 (th : Nat) (k3 : Int32 → Int32 → Int32 → Int32 → mm_P → Option (Int32 × mm_P)) (x1 : Int32) (x2 : Int32) (x3 : Int32) (x4 : Int32) (P : mm_P) : Option (Int32 × mm_P) :=
  mm_bd (fX5_takeNumber th x3 (9 : Int32) P) fun r1 =>
  if (gI r1.2 648 th) ≠ 0 then
  (fX5_readRow_b68 th k3 x1 x2 x3 x4 r1.1 r1.2)
  else
  (if x4 ≠ x2 then
  (fX5_readRow_b68 th k3 x1 x2 x3 x4 r1.1 r1.2)
  else
  (mm_lt (sI r1.2 647 th ((gI r1.2 647 th) - (1 : Int32))) fun P5 =>
  mm_bd (fX5_wrong th (5 : Int32) P5) fun r6 =>
  k3 x1 x2 x3 x4 r6))
set_option maxHeartbeats 4000000 in
theorem wfX5_readRow_b28 {E : mm_E} (C : mm_Cx E RX5 cX5_readRow 6 (some .int) 2 43) {K : mm_K} {th : Nat} (hk : K.1 th = 5) {nx sl : Nat} {k3 : Int32 → Int32 → Int32 → Int32 → mm_P → Option (Int32 × mm_P)} (hk3 : ∀ (x1 : Int32) (x2 : Int32) (x3 : Int32) (x4 : Int32) (P : mm_P), mm_V E (mm_wwI K nx sl) 3 [some (.ref th), some (.int x1), some (.int x2), some (.int x3), some (.int x4), none] [] K P nx sl (k3 x1 x2 x3 x4 P)) (x1 : Int32) (x2 : Int32) (x3 : Int32) (x4 : Int32) (P : mm_P) : mm_V E (mm_wwI K nx sl) 28 [some (.ref th), some (.int x1), some (.int x2), some (.int x3), some (.int x4), none] [] K P nx sl (fX5_readRow_b28 th k3 x1 x2 x3 x4 P) := by
  unfold fX5_readRow_b28
  refine r_aload_n C dX5_readRow_28 rfl rfl ?_
  refine r_iload_n C dX5_readRow_29 rfl rfl ?_
  refine r_bipush (v := 9) C dX5_readRow_30 rfl ?_
  refine r_bd fun r1 h2 => ?_
  refine r_callV (As := [.int x3, .int (9 : Int32)]) (st := []) C (mc_X5_takeNumber hk h2) cv_X5_195 hk rfl (Nat.le_of_ble_eq_true rfl) (Nat.le_of_ble_eq_true rfl) rfl (Nat.le_of_ble_eq_true rfl) dX5_readRow_32 ?_
  refine r_istore (ls' := [some (.ref th), some (.int x1), some (.int x2), some (.int x3), some (.int x4), some (.int r1.1)]) C dX5_readRow_35 (Nat.le_of_ble_eq_true rfl) rfl rfl ?_
  refine r_aload_n C dX5_readRow_37 rfl rfl ?_
  refine r_getI (code := 648) C fl_X5_177 hk rfl dX5_readRow_38 ?_
  refine r_ifne (tgt := 68) C dX5_readRow_41 (by decide) (fun h3 => ?_) (fun h3 => ?_)
  · exact wfX5_readRow_b68 C hk hk3 x1 x2 x3 x4 r1.1 r1.2
  · refine r_iload C dX5_readRow_44 rfl ?_
    refine r_iload_n C dX5_readRow_46 rfl rfl ?_
    refine r_icmpne (tgt := 68) C dX5_readRow_47 (by decide) (fun h4 => ?_) (fun h4 => ?_)
    · exact wfX5_readRow_b68 C hk hk3 x1 x2 x3 x4 r1.1 r1.2
    · refine r_aload_n C dX5_readRow_50 rfl rfl ?_
      refine r_dup C dX5_readRow_51 rfl ?_
      refine r_getI (code := 647) C fl_X5_174 hk rfl dX5_readRow_52 ?_
      refine r_iconst (v := 1) C dX5_readRow_55 rfl ?_
      refine r_isub C dX5_readRow_56 ?_
      refine r_putI (code := 647) C fl_X5_174 hk rfl rfl dX5_readRow_57 ?_
      refine r_ltP fun P5 => ?_
      refine r_aload_n C dX5_readRow_60 rfl rfl ?_
      refine r_iconst (v := 5) C dX5_readRow_61 rfl ?_
      refine r_bd fun r6 h7 => ?_
      refine r_callVv (As := [.int (5 : Int32)]) (st := []) C (mc_X5_wrong hk h7) cv_X5_183 hk rfl (Nat.le_of_ble_eq_true rfl) (Nat.le_of_ble_eq_true rfl) rfl (Nat.le_of_ble_eq_true rfl) dX5_readRow_62 ?_
      refine r_goto (tgt := 92) C dX5_readRow_65 (by decide) ?_
      refine r_goto (tgt := 3) C dX5_readRow_92 (by decide) ?_
      refine r_mask [true, true, true, true, true, false] (ls' := [some (.ref th), some (.int x1), some (.int x2), some (.int x3), some (.int x4), none]) rfl ?_
      exact hk3 x1 x2 x3 x4 r6
def fX5_readRow_b3 (th : Nat)  : Nat → Int32 → Int32 → Int32 → Int32 → mm_P → Option (Int32 × mm_P)
  | 0, _, _, _, _, _ => none
  | n + 1, x1, x2, x3, x4, P =>
  if (gI P 648 th) ≠ 0 then
  (some (x4, P))
  else
  (if x4 = 0 then
  (fX5_readRow_b28 th (fX5_readRow_b3 th n) x1 x2 x3 x4 P)
  else
  (mm_gd (mm_in (gI P 647 th) 1002) <|
  if (gA P 644 th (gI P 647 th).toNatClampNeg) ≠ (2 : Int32) then
  (some (x4, P))
  else
  (fX5_readRow_b28 th (fX5_readRow_b3 th n) x1 x2 x3 x4 P)))
set_option maxHeartbeats 4000000 in
theorem wfX5_readRow_b3 {E : mm_E} (C : mm_Cx E RX5 cX5_readRow 6 (some .int) 2 43) {K : mm_K} {th : Nat} (hk : K.1 th = 5) {nx sl : Nat} : ∀ (n : Nat), ∀ (x1 : Int32) (x2 : Int32) (x3 : Int32) (x4 : Int32) (P : mm_P), mm_V E (mm_wwI K nx sl) 3 [some (.ref th), some (.int x1), some (.int x2), some (.int x3), some (.int x4), none] [] K P nx sl (fX5_readRow_b3 th n x1 x2 x3 x4 P) := by
  intro n
  induction n with
  | zero => intro x1 x2 x3 x4 P; exact r_none
  | succ n ih =>
    intro x1 x2 x3 x4 P
    rw [fX5_readRow_b3]
    refine r_aload_n C dX5_readRow_3 rfl rfl ?_
    refine r_getI (code := 648) C fl_X5_177 hk rfl dX5_readRow_4 ?_
    refine r_ifne (tgt := 95) C dX5_readRow_7 (by decide) (fun h1 => ?_) (fun h1 => ?_)
    · refine r_iload C dX5_readRow_95 rfl ?_
      exact r_iret C dX5_readRow_97 rfl
    · refine r_iload C dX5_readRow_10 rfl ?_
      refine r_ifeq (tgt := 28) C dX5_readRow_12 (by decide) (fun h2 => ?_) (fun h2 => ?_)
      · exact wfX5_readRow_b28 C hk ih x1 x2 x3 x4 P
      · refine r_aload_n C dX5_readRow_15 rfl rfl ?_
        refine r_getA C fl_X5_24 hk dX5_readRow_16 ?_
        refine r_aload_n C dX5_readRow_19 rfl rfl ?_
        refine r_getI (code := 647) C fl_X5_174 hk rfl dX5_readRow_20 ?_
        refine r_iald C (rg_644 hk) rfl dX5_readRow_23 fun h3 => ?_
        refine r_iconst (v := 2) C dX5_readRow_24 rfl ?_
        refine r_icmpne (tgt := 95) C dX5_readRow_25 (by decide) (fun h4 => ?_) (fun h4 => ?_)
        · refine r_iload C dX5_readRow_95 rfl ?_
          exact r_iret C dX5_readRow_97 rfl
        · exact wfX5_readRow_b28 C hk ih x1 x2 x3 x4 P
def fX5_readRow (th : Nat) (x1 : Int32) (x2 : Int32) (x3 : Int32) (P : mm_P) : Option (Int32 × mm_P) :=
  fX5_readRow_b3 th mm_NF x1 x2 x3 (0 : Int32) P
set_option maxHeartbeats 4000000 in
theorem mc_X5_readRow {l : Launch} {K : mm_K} {P : mm_P} {th : Nat} {x1 : Int32} {x2 : Int32} {x3 : Int32} {nx sl : Nat} {r : (Int32 × mm_P)} (hk : K.1 th = 5) (h : fX5_readRow th x1 x2 x3 P = some r) : mm_C l yX5_readRow (ws_ yX5_readRow cX5_readRow 6 (some .int)) 2 43 [.ref th, .int x1, .int x2, .int x3] K P nx sl (mm_wwI K nx sl r) :=
  mm_start (ls := [some (.ref th), some (.int x1), some (.int x2), some (.int x3), none, none]) h (by decide) (Nat.le_of_ble_eq_true rfl) rfl (Nat.le_refl _) (Nat.le_refl _) rfl fun E hl9 _ _ _ C => by
  have C : mm_Cx E RX5 cX5_readRow 6 (some .int) 2 43 := C
  unfold fX5_readRow
  refine r_iconst (v := 0) C dX5_readRow_0 rfl ?_
  refine r_istore (ls' := [some (.ref th), some (.int x1), some (.int x2), some (.int x3), some (.int (0 : Int32)), none]) C dX5_readRow_1 (Nat.le_of_ble_eq_true rfl) rfl rfl ?_
  exact wfX5_readRow_b3 C hk mm_NF x1 x2 x3 (0 : Int32) P
/-! isSign -/
def fX5_isSign (th : Nat) (P : mm_P) (x1 : Int32) : Option Int32 :=
  if (gI P 648 th) ≠ 0 then
  (some ((0 : Int32)))
  else
  (mm_gd (mm_in (gI P 647 th) 1002) <|
  if (gA P 644 th (gI P 647 th).toNatClampNeg) ≠ (3 : Int32) then
  (some ((0 : Int32)))
  else
  (mm_gd (mm_in (gI P 647 th) 1002) <|
  if (lg_cmp (gL P 646 th (gI P 647 th).toNatClampNeg) x1.toInt64) ≠ 0 then
  (some ((0 : Int32)))
  else
  (some ((1 : Int32)))))
set_option maxHeartbeats 4000000 in
theorem mc_X5_isSign {l : Launch} {K : mm_K} {P : mm_P} {th : Nat} {x1 : Int32} {nx sl : Nat} {r : Int32} (hk : K.1 th = 5) (h : fX5_isSign th P x1 = some r) : mm_C l yX5_isSign (ws_ yX5_isSign cX5_isSign 2 (some .boolean)) 0 0 [.ref th, .int x1] K P nx sl (mm_wrI K P nx sl r) :=
  mm_start (ls := [some (.ref th), some (.int x1)]) h (by decide) (Nat.le_of_ble_eq_true rfl) rfl (Nat.le_refl _) (Nat.le_refl _) rfl fun E hl9 _ _ _ C => by
  have C : mm_Cx E RX5 cX5_isSign 2 (some .boolean) 0 0 := C
  unfold fX5_isSign
  refine r_aload_n C dX5_isSign_0 rfl rfl ?_
  refine r_getI (code := 648) C fl_X5_177 hk rfl dX5_isSign_1 ?_
  refine r_ifne (tgt := 39) C dX5_isSign_4 (by decide) (fun h1 => ?_) (fun h1 => ?_)
  · refine r_iconst (v := 0) C dX5_isSign_39 rfl ?_
    exact r_zret C dX5_isSign_40 rfl rfl
  · refine r_aload_n C dX5_isSign_7 rfl rfl ?_
    refine r_getA C fl_X5_24 hk dX5_isSign_8 ?_
    refine r_aload_n C dX5_isSign_11 rfl rfl ?_
    refine r_getI (code := 647) C fl_X5_174 hk rfl dX5_isSign_12 ?_
    refine r_iald C (rg_644 hk) rfl dX5_isSign_15 fun h2 => ?_
    refine r_iconst (v := 3) C dX5_isSign_16 rfl ?_
    refine r_icmpne (tgt := 39) C dX5_isSign_17 (by decide) (fun h3 => ?_) (fun h3 => ?_)
    · refine r_iconst (v := 0) C dX5_isSign_39 rfl ?_
      exact r_zret C dX5_isSign_40 rfl rfl
    · refine r_aload_n C dX5_isSign_20 rfl rfl ?_
      refine r_getA C fl_X5_30 hk dX5_isSign_21 ?_
      refine r_aload_n C dX5_isSign_24 rfl rfl ?_
      refine r_getI (code := 647) C fl_X5_174 hk rfl dX5_isSign_25 ?_
      refine r_lald C (rg_646 hk) rfl dX5_isSign_28 fun h4 => ?_
      refine r_iload_n C dX5_isSign_29 rfl rfl ?_
      refine r_i2l C dX5_isSign_30 ?_
      refine r_lcmp C dX5_isSign_31 ?_
      refine r_ifne (tgt := 39) C dX5_isSign_32 (by decide) (fun h5 => ?_) (fun h5 => ?_)
      · refine r_iconst (v := 0) C dX5_isSign_39 rfl ?_
        exact r_zret C dX5_isSign_40 rfl rfl
      · refine r_iconst (v := 1) C dX5_isSign_35 rfl ?_
        refine r_goto (tgt := 40) C dX5_isSign_36 (by decide) ?_
        exact r_zret C dX5_isSign_40 rfl rfl
/-! emit -/
def fX5_emit (th : Nat) (x1 : Int32) (x2 : Int32) (P : mm_P) : Option mm_P :=
  mm_gd (mm_in ((1100 : Int32) + (gI P 653 th)) 2200) <|
  mm_lt (sA P 651 th ((1100 : Int32) + (gI P 653 th)).toNatClampNeg x1) fun P2 =>
  mm_gd (mm_in ((1100 : Int32) + (gI P2 653 th)) 2200) <|
  mm_lt (sA P2 652 th ((1100 : Int32) + (gI P2 653 th)).toNatClampNeg x2) fun P4 =>
  mm_lt (sI P4 653 th ((gI P4 653 th) + (1 : Int32))) fun P5 =>
  some P5
set_option maxHeartbeats 4000000 in
theorem mc_X5_emit {l : Launch} {K : mm_K} {P : mm_P} {th : Nat} {x1 : Int32} {x2 : Int32} {nx sl : Nat} {r : mm_P} (hk : K.1 th = 5) (h : fX5_emit th x1 x2 P = some r) : mm_C l yX5_emit (ws_ yX5_emit cX5_emit 3 none) 0 0 [.ref th, .int x1, .int x2] K P nx sl (mm_wwV K nx sl r) :=
  mm_start (ls := [some (.ref th), some (.int x1), some (.int x2)]) h (by decide) (Nat.le_of_ble_eq_true rfl) rfl (Nat.le_refl _) (Nat.le_refl _) rfl fun E hl9 _ _ _ C => by
  have C : mm_Cx E RX5 cX5_emit 3 none 0 0 := C
  unfold fX5_emit
  refine r_aload_n C dX5_emit_0 rfl rfl ?_
  refine r_getA C fl_X5_92 hk dX5_emit_1 ?_
  refine r_sipush (v := 1100) C dX5_emit_4 rfl ?_
  refine r_aload_n C dX5_emit_7 rfl rfl ?_
  refine r_getI (code := 653) C fl_X5_222 hk rfl dX5_emit_8 ?_
  refine r_iadd C dX5_emit_11 ?_
  refine r_iload_n C dX5_emit_12 rfl rfl ?_
  refine r_iast C (rg_651 hk) (mm_ro_of (k := 5) hk rfl) rfl dX5_emit_13 fun h1 => ?_
  refine r_ltP fun P2 => ?_
  refine r_aload_n C dX5_emit_14 rfl rfl ?_
  refine r_getA C fl_X5_95 hk dX5_emit_15 ?_
  refine r_sipush (v := 1100) C dX5_emit_18 rfl ?_
  refine r_aload_n C dX5_emit_21 rfl rfl ?_
  refine r_getI (code := 653) C fl_X5_222 hk rfl dX5_emit_22 ?_
  refine r_iadd C dX5_emit_25 ?_
  refine r_iload_n C dX5_emit_26 rfl rfl ?_
  refine r_iast C (rg_652 hk) (mm_ro_of (k := 5) hk rfl) rfl dX5_emit_27 fun h3 => ?_
  refine r_ltP fun P4 => ?_
  refine r_aload_n C dX5_emit_28 rfl rfl ?_
  refine r_dup C dX5_emit_29 rfl ?_
  refine r_getI (code := 653) C fl_X5_222 hk rfl dX5_emit_30 ?_
  refine r_iconst (v := 1) C dX5_emit_33 rfl ?_
  refine r_iadd C dX5_emit_34 ?_
  refine r_putI (code := 653) C fl_X5_222 hk rfl rfl dX5_emit_35 ?_
  refine r_ltP fun P5 => ?_
  exact r_vret C dX5_emit_38 rfl
/-! hasSign -/
def fX5_hasSign (th : Nat) (x1 : Int32) (P : mm_P) : Option (Int32 × mm_P) :=
  mm_bd (fX5_isSign th P x1) fun r1 =>
  if r1 = 0 then
  (mm_lt (sI P 647 th ((gI P 647 th) + (0 : Int32))) fun P4 =>
  mm_gd (r1 &&& 1 = r1) <|
  some (r1, P4))
  else
  (mm_lt (sI P 647 th ((gI P 647 th) + (1 : Int32))) fun P6 =>
  mm_gd (r1 &&& 1 = r1) <|
  some (r1, P6))
set_option maxHeartbeats 4000000 in
theorem mc_X5_hasSign {l : Launch} {K : mm_K} {P : mm_P} {th : Nat} {x1 : Int32} {nx sl : Nat} {r : (Int32 × mm_P)} (hk : K.1 th = 5) (h : fX5_hasSign th x1 P = some r) : mm_C l yX5_hasSign (ws_ yX5_hasSign cX5_hasSign 3 (some .boolean)) 1 21 [.ref th, .int x1] K P nx sl (mm_wwI K nx sl r) :=
  mm_start (ls := [some (.ref th), some (.int x1), none]) h (by decide) (Nat.le_of_ble_eq_true rfl) rfl (Nat.le_refl _) (Nat.le_refl _) rfl fun E hl9 _ _ _ C => by
  have C : mm_Cx E RX5 cX5_hasSign 3 (some .boolean) 1 21 := C
  unfold fX5_hasSign
  refine r_aload_n C dX5_hasSign_0 rfl rfl ?_
  refine r_iload_n C dX5_hasSign_1 rfl rfl ?_
  refine r_bd fun r1 h2 => ?_
  refine r_callV (As := [.int x1]) (st := []) C (mc_X5_isSign hk h2) cv_X5_180 hk rfl (Nat.le_of_ble_eq_true rfl) (Nat.le_of_ble_eq_true rfl) rfl (Nat.le_of_ble_eq_true rfl) dX5_hasSign_2 ?_
  refine r_istore_n (ls' := [some (.ref th), some (.int x1), some (.int r1)]) C dX5_hasSign_5 rfl (Nat.le_of_ble_eq_true rfl) rfl rfl ?_
  refine r_aload_n C dX5_hasSign_6 rfl rfl ?_
  refine r_dup C dX5_hasSign_7 rfl ?_
  refine r_getI (code := 647) C fl_X5_174 hk rfl dX5_hasSign_8 ?_
  refine r_iload_n C dX5_hasSign_11 rfl rfl ?_
  refine r_ifeq (tgt := 19) C dX5_hasSign_12 (by decide) (fun h3 => ?_) (fun h3 => ?_)
  · refine r_iconst (v := 0) C dX5_hasSign_19 rfl ?_
    refine r_iadd C dX5_hasSign_20 ?_
    refine r_putI (code := 647) C fl_X5_174 hk rfl rfl dX5_hasSign_21 ?_
    refine r_ltP fun P4 => ?_
    refine r_iload_n C dX5_hasSign_24 rfl rfl ?_
    refine r_gd fun h5 => ?_
    exact r_zret C dX5_hasSign_25 (mm_nz h5) rfl
  · refine r_iconst (v := 1) C dX5_hasSign_15 rfl ?_
    refine r_goto (tgt := 20) C dX5_hasSign_16 (by decide) ?_
    refine r_iadd C dX5_hasSign_20 ?_
    refine r_putI (code := 647) C fl_X5_174 hk rfl rfl dX5_hasSign_21 ?_
    refine r_ltP fun P6 => ?_
    refine r_iload_n C dX5_hasSign_24 rfl rfl ?_
    refine r_gd fun h7 => ?_
    exact r_zret C dX5_hasSign_25 (mm_nz h7) rfl
/-! products -/
def fX5_products_b5 (th : Nat) (kS : (Int32 → mm_P → Option mm_P))  : Nat → Int32 → mm_P → Option mm_P
  | 0, _, _ => none
  | n + 1, x1, P =>
  mm_bd (fX5_hasSign th (42 : Int32) P) fun r1 =>
  if r1.1 = 0 then
  (some r1.2)
  else
  (mm_bd (kS x1 r1.2) fun r4 =>
  mm_bd (fX5_emit th (6 : Int32) (0 : Int32) r4) fun r6 =>
  fX5_products_b5 th kS n x1 r6)
set_option maxHeartbeats 4000000 in
theorem wfX5_products_b5 {E : mm_E} {FR LC FRS LCS : Nat} (hFR : FRS + 1 ≤ FR) (hFb : 2 ≤ FR) (hLC : LCS + 23 ≤ LC) (hLb : 43 ≤ LC) (C : mm_Cx E RX5 cX5_products 2 none FR LC) {K : mm_K} {th : Nat} (hk : K.1 th = 5) {nx sl : Nat} {kS : (Int32 → mm_P → Option mm_P)} (hkS : ∀ (z0 : Int32) (P : mm_P) (r : mm_P), kS z0 P = some r → mm_C (eL E) yX5_takePart (ws_ yX5_takePart cX5_takePart 4 none) FRS LCS [.ref th, .int z0] K P nx sl (mm_wwV K nx sl r)) : ∀ (n : Nat), ∀ (x1 : Int32) (P : mm_P), mm_V E (mm_wwV K nx sl) 5 [some (.ref th), some (.int x1)] [] K P nx sl (fX5_products_b5 th kS n x1 P) := by
  intro n
  induction n with
  | zero => intro x1 P; exact r_none
  | succ n ih =>
    intro x1 P
    rw [fX5_products_b5]
    refine r_aload_n C dX5_products_5 rfl rfl ?_
    refine r_bipush (v := 42) C dX5_products_6 rfl ?_
    refine r_bd fun r1 h2 => ?_
    refine r_callV (As := [.int (42 : Int32)]) (st := []) C (mc_X5_hasSign hk h2) cv_X5_270 hk rfl (by omega) (by omega) rfl (Nat.le_of_ble_eq_true rfl) dX5_products_8 ?_
    refine r_ifeq (tgt := 29) C dX5_products_11 (by decide) (fun h3 => ?_) (fun h3 => ?_)
    · exact r_vret C dX5_products_29 rfl
    · refine r_aload_n C dX5_products_14 rfl rfl ?_
      refine r_iload_n C dX5_products_15 rfl rfl ?_
      refine r_bd fun r4 h5 => ?_
      refine r_callVv (As := [.int x1]) (st := []) C (hkS _ _ _ h5) cv_X5_276 hk rfl (by omega) (by omega) rfl (Nat.le_of_ble_eq_true rfl) dX5_products_16 ?_
      refine r_aload_n C dX5_products_19 rfl rfl ?_
      refine r_bipush (v := 6) C dX5_products_20 rfl ?_
      refine r_iconst (v := 0) C dX5_products_22 rfl ?_
      refine r_bd fun r6 h7 => ?_
      refine r_callVv (As := [.int (6 : Int32), .int (0 : Int32)]) (st := []) C (mc_X5_emit hk h7) cv_X5_256 hk rfl (by omega) (by omega) rfl (Nat.le_of_ble_eq_true rfl) dX5_products_23 ?_
      refine r_goto (tgt := 5) C dX5_products_26 (by decide) ?_
      exact ih x1 r6
def fX5_products (th : Nat) (kS : (Int32 → mm_P → Option mm_P)) (x1 : Int32) (P : mm_P) : Option mm_P :=
  mm_bd (kS x1 P) fun r1 =>
  fX5_products_b5 th kS mm_NF x1 r1
set_option maxHeartbeats 4000000 in
theorem mc_X5_products {l : Launch} {FRS LCS : Nat} {K : mm_K} {P : mm_P} {th : Nat} {x1 : Int32} {nx sl : Nat} {kS : (Int32 → mm_P → Option mm_P)} {r : mm_P} (hk : K.1 th = 5) (hkS : ∀ (z0 : Int32) (P : mm_P) (r : mm_P), kS z0 P = some r → mm_C l yX5_takePart (ws_ yX5_takePart cX5_takePart 4 none) FRS LCS [.ref th, .int z0] K P nx sl (mm_wwV K nx sl r)) (h : fX5_products th kS x1 P = some r) : mm_C l yX5_products (ws_ yX5_products cX5_products 2 none) (max (FRS + 1) 2) (max (LCS + 23) 43) [.ref th, .int x1] K P nx sl (mm_wwV K nx sl r) :=
  mm_start (ls := [some (.ref th), some (.int x1)]) h (by decide) (Nat.le_of_ble_eq_true rfl) rfl (Nat.le_refl _) (Nat.le_refl _) rfl fun E hl _ _ _ C => by
  have C : mm_Cx E RX5 cX5_products 2 none (max (FRS + 1) 2) (max (LCS + 23) 43) := C
  generalize hFe : (max (FRS + 1) 2) = FR at C
  generalize hLe : (max (LCS + 23) 43) = LC at C
  have hFR : FRS + 1 ≤ FR := by omega
  have hFb : 2 ≤ FR := by omega
  have hLC : LCS + 23 ≤ LC := by omega
  have hLb : 43 ≤ LC := by omega
  clear hFe hLe h
  subst hl
  unfold fX5_products
  refine r_aload_n C dX5_products_0 rfl rfl ?_
  refine r_iload_n C dX5_products_1 rfl rfl ?_
  refine r_bd fun r1 h2 => ?_
  refine r_callVv (As := [.int x1]) (st := []) C (hkS _ _ _ h2) cv_X5_276 hk rfl (by omega) (by omega) rfl (Nat.le_of_ble_eq_true rfl) dX5_products_2 ?_
  exact wfX5_products_b5 hFR hFb hLC hLb C hk hkS mm_NF x1 r1
/-! sums -/
def fX5_sums_b55 (th : Nat) (kS : (Int32 → mm_P → Option mm_P)) (k5 : Int32 → mm_P → Option mm_P) (x1 : Int32) (s1 : Int32) (P : mm_P) : Option mm_P :=
  mm_bd (fX5_emit th s1 (0 : Int32) P) fun r1 =>
  k5 x1 r1
set_option maxHeartbeats 4000000 in
theorem wfX5_sums_b55 {E : mm_E} {FR LC FRS LCS : Nat} (hFR : FRS + 2 ≤ FR) (hFb : 3 ≤ FR) (hLC : LCS + 44 ≤ LC) (hLb : 64 ≤ LC) (C : mm_Cx E RX5 cX5_sums 3 none FR LC) {K : mm_K} {th : Nat} (hk : K.1 th = 5) {nx sl : Nat} {kS : (Int32 → mm_P → Option mm_P)} (hkS : ∀ (z0 : Int32) (P : mm_P) (r : mm_P), kS z0 P = some r → mm_C (eL E) yX5_takePart (ws_ yX5_takePart cX5_takePart 4 none) FRS LCS [.ref th, .int z0] K P nx sl (mm_wwV K nx sl r)) {k5 : Int32 → mm_P → Option mm_P} (hk5 : ∀ (x1 : Int32) (P : mm_P), mm_V E (mm_wwV K nx sl) 5 [some (.ref th), some (.int x1), none] [] K P nx sl (k5 x1 P)) (x1 : Int32) (s1 : Int32) (P : mm_P) : mm_V E (mm_wwV K nx sl) 55 [some (.ref th), some (.int x1), none] [.int s1, .ref th] K P nx sl (fX5_sums_b55 th kS k5 x1 s1 P) := by
  unfold fX5_sums_b55
  refine r_iconst (v := 0) C dX5_sums_55 rfl ?_
  refine r_bd fun r1 h2 => ?_
  refine r_callVv (As := [.int s1, .int (0 : Int32)]) (st := []) C (mc_X5_emit hk h2) cv_X5_256 hk rfl (by omega) (by omega) rfl (Nat.le_of_ble_eq_true rfl) dX5_sums_56 ?_
  refine r_goto (tgt := 5) C dX5_sums_59 (by decide) ?_
  exact hk5 x1 r1
def fX5_sums_b23 (th : Nat) (kS : (Int32 → mm_P → Option mm_P)) (k5 : Int32 → mm_P → Option mm_P) (x1 : Int32) (P : mm_P) : Option mm_P :=
  mm_bd (fX5_isSign th P (43 : Int32)) fun r1 =>
  mm_lt (sI P 647 th ((gI P 647 th) + (1 : Int32))) fun P3 =>
  mm_bd (fX5_products th kS x1 P3) fun r4 =>
  if r1 = 0 then
  (fX5_sums_b55 th kS k5 x1 (5 : Int32) r4)
  else
  (fX5_sums_b55 th kS k5 x1 (4 : Int32) r4)
set_option maxHeartbeats 4000000 in
theorem wfX5_sums_b23 {E : mm_E} {FR LC FRS LCS : Nat} (hFR : FRS + 2 ≤ FR) (hFb : 3 ≤ FR) (hLC : LCS + 44 ≤ LC) (hLb : 64 ≤ LC) (C : mm_Cx E RX5 cX5_sums 3 none FR LC) {K : mm_K} {th : Nat} (hk : K.1 th = 5) {nx sl : Nat} {kS : (Int32 → mm_P → Option mm_P)} (hkS : ∀ (z0 : Int32) (P : mm_P) (r : mm_P), kS z0 P = some r → mm_C (eL E) yX5_takePart (ws_ yX5_takePart cX5_takePart 4 none) FRS LCS [.ref th, .int z0] K P nx sl (mm_wwV K nx sl r)) {k5 : Int32 → mm_P → Option mm_P} (hk5 : ∀ (x1 : Int32) (P : mm_P), mm_V E (mm_wwV K nx sl) 5 [some (.ref th), some (.int x1), none] [] K P nx sl (k5 x1 P)) (x1 : Int32) (P : mm_P) : mm_V E (mm_wwV K nx sl) 23 [some (.ref th), some (.int x1), none] [] K P nx sl (fX5_sums_b23 th kS k5 x1 P) := by
  unfold fX5_sums_b23
  refine r_aload_n C dX5_sums_23 rfl rfl ?_
  refine r_bipush (v := 43) C dX5_sums_24 rfl ?_
  refine r_bd fun r1 h2 => ?_
  refine r_callV (As := [.int (43 : Int32)]) (st := []) C (mc_X5_isSign hk h2) cv_X5_180 hk rfl (by omega) (by omega) rfl (Nat.le_of_ble_eq_true rfl) dX5_sums_26 ?_
  refine r_istore_n (ls' := [some (.ref th), some (.int x1), some (.int r1)]) C dX5_sums_29 rfl (Nat.le_of_ble_eq_true rfl) rfl rfl ?_
  refine r_aload_n C dX5_sums_30 rfl rfl ?_
  refine r_dup C dX5_sums_31 rfl ?_
  refine r_getI (code := 647) C fl_X5_174 hk rfl dX5_sums_32 ?_
  refine r_iconst (v := 1) C dX5_sums_35 rfl ?_
  refine r_iadd C dX5_sums_36 ?_
  refine r_putI (code := 647) C fl_X5_174 hk rfl rfl dX5_sums_37 ?_
  refine r_ltP fun P3 => ?_
  refine r_aload_n C dX5_sums_40 rfl rfl ?_
  refine r_iload_n C dX5_sums_41 rfl rfl ?_
  refine r_bd fun r4 h5 => ?_
  refine r_callVv (As := [.int x1]) (st := []) C (mc_X5_products hk hkS h5) cv_X5_273 hk rfl (by omega) (by omega) rfl (Nat.le_of_ble_eq_true rfl) dX5_sums_42 ?_
  refine r_aload_n C dX5_sums_45 rfl rfl ?_
  refine r_iload_n C dX5_sums_46 rfl rfl ?_
  refine r_ifeq (tgt := 54) C dX5_sums_47 (by decide) (fun h6 => ?_) (fun h6 => ?_)
  · refine r_iconst (v := 5) C dX5_sums_54 rfl ?_
    refine r_mask [true, true, false] (ls' := [some (.ref th), some (.int x1), none]) rfl ?_
    exact wfX5_sums_b55 hFR hFb hLC hLb C hk hkS hk5 x1 (5 : Int32) r4
  · refine r_iconst (v := 4) C dX5_sums_50 rfl ?_
    refine r_goto (tgt := 55) C dX5_sums_51 (by decide) ?_
    refine r_mask [true, true, false] (ls' := [some (.ref th), some (.int x1), none]) rfl ?_
    exact wfX5_sums_b55 hFR hFb hLC hLb C hk hkS hk5 x1 (4 : Int32) r4
def fX5_sums_b5 (th : Nat) (kS : (Int32 → mm_P → Option mm_P))  : Nat → Int32 → mm_P → Option mm_P
  | 0, _, _ => none
  | n + 1, x1, P =>
  mm_bd (fX5_isSign th P (43 : Int32)) fun r1 =>
  if r1 ≠ 0 then
  (fX5_sums_b23 th kS (fX5_sums_b5 th kS n) x1 P)
  else
  (mm_bd (fX5_isSign th P (45 : Int32)) fun r4 =>
  if r4 = 0 then
  (some P)
  else
  (fX5_sums_b23 th kS (fX5_sums_b5 th kS n) x1 P))
set_option maxHeartbeats 4000000 in
theorem wfX5_sums_b5 {E : mm_E} {FR LC FRS LCS : Nat} (hFR : FRS + 2 ≤ FR) (hFb : 3 ≤ FR) (hLC : LCS + 44 ≤ LC) (hLb : 64 ≤ LC) (C : mm_Cx E RX5 cX5_sums 3 none FR LC) {K : mm_K} {th : Nat} (hk : K.1 th = 5) {nx sl : Nat} {kS : (Int32 → mm_P → Option mm_P)} (hkS : ∀ (z0 : Int32) (P : mm_P) (r : mm_P), kS z0 P = some r → mm_C (eL E) yX5_takePart (ws_ yX5_takePart cX5_takePart 4 none) FRS LCS [.ref th, .int z0] K P nx sl (mm_wwV K nx sl r)) : ∀ (n : Nat), ∀ (x1 : Int32) (P : mm_P), mm_V E (mm_wwV K nx sl) 5 [some (.ref th), some (.int x1), none] [] K P nx sl (fX5_sums_b5 th kS n x1 P) := by
  intro n
  induction n with
  | zero => intro x1 P; exact r_none
  | succ n ih =>
    intro x1 P
    rw [fX5_sums_b5]
    refine r_aload_n C dX5_sums_5 rfl rfl ?_
    refine r_bipush (v := 43) C dX5_sums_6 rfl ?_
    refine r_bd fun r1 h2 => ?_
    refine r_callV (As := [.int (43 : Int32)]) (st := []) C (mc_X5_isSign hk h2) cv_X5_180 hk rfl (by omega) (by omega) rfl (Nat.le_of_ble_eq_true rfl) dX5_sums_8 ?_
    refine r_ifne (tgt := 23) C dX5_sums_11 (by decide) (fun h3 => ?_) (fun h3 => ?_)
    · exact wfX5_sums_b23 hFR hFb hLC hLb C hk hkS ih x1 P
    · refine r_aload_n C dX5_sums_14 rfl rfl ?_
      refine r_bipush (v := 45) C dX5_sums_15 rfl ?_
      refine r_bd fun r4 h5 => ?_
      refine r_callV (As := [.int (45 : Int32)]) (st := []) C (mc_X5_isSign hk h5) cv_X5_180 hk rfl (by omega) (by omega) rfl (Nat.le_of_ble_eq_true rfl) dX5_sums_17 ?_
      refine r_ifeq (tgt := 62) C dX5_sums_20 (by decide) (fun h6 => ?_) (fun h6 => ?_)
      · exact r_vret C dX5_sums_62 rfl
      · exact wfX5_sums_b23 hFR hFb hLC hLb C hk hkS ih x1 P
def fX5_sums (th : Nat) (kS : (Int32 → mm_P → Option mm_P)) (x1 : Int32) (P : mm_P) : Option mm_P :=
  mm_bd (fX5_products th kS x1 P) fun r1 =>
  fX5_sums_b5 th kS mm_NF x1 r1
set_option maxHeartbeats 4000000 in
theorem mc_X5_sums {l : Launch} {FRS LCS : Nat} {K : mm_K} {P : mm_P} {th : Nat} {x1 : Int32} {nx sl : Nat} {kS : (Int32 → mm_P → Option mm_P)} {r : mm_P} (hk : K.1 th = 5) (hkS : ∀ (z0 : Int32) (P : mm_P) (r : mm_P), kS z0 P = some r → mm_C l yX5_takePart (ws_ yX5_takePart cX5_takePart 4 none) FRS LCS [.ref th, .int z0] K P nx sl (mm_wwV K nx sl r)) (h : fX5_sums th kS x1 P = some r) : mm_C l yX5_sums (ws_ yX5_sums cX5_sums 3 none) (max (FRS + 2) 3) (max (LCS + 44) 64) [.ref th, .int x1] K P nx sl (mm_wwV K nx sl r) :=
  mm_start (ls := [some (.ref th), some (.int x1), none]) h (by decide) (Nat.le_of_ble_eq_true rfl) rfl (Nat.le_refl _) (Nat.le_refl _) rfl fun E hl _ _ _ C => by
  have C : mm_Cx E RX5 cX5_sums 3 none (max (FRS + 2) 3) (max (LCS + 44) 64) := C
  generalize hFe : (max (FRS + 2) 3) = FR at C
  generalize hLe : (max (LCS + 44) 64) = LC at C
  have hFR : FRS + 2 ≤ FR := by omega
  have hFb : 3 ≤ FR := by omega
  have hLC : LCS + 44 ≤ LC := by omega
  have hLb : 64 ≤ LC := by omega
  clear hFe hLe h
  subst hl
  unfold fX5_sums
  refine r_aload_n C dX5_sums_0 rfl rfl ?_
  refine r_iload_n C dX5_sums_1 rfl rfl ?_
  refine r_bd fun r1 h2 => ?_
  refine r_callVv (As := [.int x1]) (st := []) C (mc_X5_products hk hkS h2) cv_X5_273 hk rfl (by omega) (by omega) rfl (Nat.le_of_ble_eq_true rfl) dX5_sums_2 ?_
  exact wfX5_sums_b5 hFR hFb hLC hLb C hk hkS mm_NF x1 r1
/-! test -/
def fX5_test_b47 (th : Nat) (kS : (Int32 → mm_P → Option mm_P))  (s1 : Int32) (P : mm_P) : Option mm_P :=
  mm_bd (fX5_emit th s1 (0 : Int32) P) fun r1 =>
  some r1
set_option maxHeartbeats 4000000 in
theorem wfX5_test_b47 {E : mm_E} {FR LC FRS LCS : Nat} (hFR : FRS + 3 ≤ FR) (hFb : 4 ≤ FR) (hLC : LCS + 66 ≤ LC) (hLb : 86 ≤ LC) (C : mm_Cx E RX5 cX5_test 3 none FR LC) {K : mm_K} {th : Nat} (hk : K.1 th = 5) {nx sl : Nat} {kS : (Int32 → mm_P → Option mm_P)} (hkS : ∀ (z0 : Int32) (P : mm_P) (r : mm_P), kS z0 P = some r → mm_C (eL E) yX5_takePart (ws_ yX5_takePart cX5_takePart 4 none) FRS LCS [.ref th, .int z0] K P nx sl (mm_wwV K nx sl r)) (s1 : Int32) (P : mm_P) : mm_V E (mm_wwV K nx sl) 47 [none, none, none] [.int s1, .ref th] K P nx sl (fX5_test_b47 th kS s1 P) := by
  unfold fX5_test_b47
  refine r_iconst (v := 0) C dX5_test_47 rfl ?_
  refine r_bd fun r1 h2 => ?_
  refine r_callVv (As := [.int s1, .int (0 : Int32)]) (st := []) C (mc_X5_emit hk h2) cv_X5_256 hk rfl (by omega) (by omega) rfl (Nat.le_of_ble_eq_true rfl) dX5_test_48 ?_
  exact r_vret C dX5_test_51 rfl
def fX5_test_b30 (th : Nat) (kS : (Int32 → mm_P → Option mm_P))  (x1 : Int32) (x2 : Int32) (P : mm_P) : Option mm_P :=
  mm_bd (fX5_sums th kS x1 P) fun r1 =>
  if x2 = 0 then
  (fX5_test_b47 th kS (8 : Int32) r1)
  else
  (fX5_test_b47 th kS (7 : Int32) r1)
set_option maxHeartbeats 4000000 in
theorem wfX5_test_b30 {E : mm_E} {FR LC FRS LCS : Nat} (hFR : FRS + 3 ≤ FR) (hFb : 4 ≤ FR) (hLC : LCS + 66 ≤ LC) (hLb : 86 ≤ LC) (C : mm_Cx E RX5 cX5_test 3 none FR LC) {K : mm_K} {th : Nat} (hk : K.1 th = 5) {nx sl : Nat} {kS : (Int32 → mm_P → Option mm_P)} (hkS : ∀ (z0 : Int32) (P : mm_P) (r : mm_P), kS z0 P = some r → mm_C (eL E) yX5_takePart (ws_ yX5_takePart cX5_takePart 4 none) FRS LCS [.ref th, .int z0] K P nx sl (mm_wwV K nx sl r)) (x1 : Int32) (x2 : Int32) (P : mm_P) : mm_V E (mm_wwV K nx sl) 30 [some (.ref th), some (.int x1), some (.int x2)] [] K P nx sl (fX5_test_b30 th kS x1 x2 P) := by
  unfold fX5_test_b30
  refine r_aload_n C dX5_test_30 rfl rfl ?_
  refine r_iload_n C dX5_test_31 rfl rfl ?_
  refine r_bd fun r1 h2 => ?_
  refine r_callVv (As := [.int x1]) (st := []) C (mc_X5_sums hk hkS h2) cv_X5_267 hk rfl (by omega) (by omega) rfl (Nat.le_of_ble_eq_true rfl) dX5_test_32 ?_
  refine r_aload_n C dX5_test_35 rfl rfl ?_
  refine r_iload_n C dX5_test_36 rfl rfl ?_
  refine r_ifeq (tgt := 45) C dX5_test_37 (by decide) (fun h3 => ?_) (fun h3 => ?_)
  · refine r_bipush (v := 8) C dX5_test_45 rfl ?_
    refine r_mask [false, false, false] (ls' := [none, none, none]) rfl ?_
    exact wfX5_test_b47 hFR hFb hLC hLb C hk hkS (8 : Int32) r1
  · refine r_bipush (v := 7) C dX5_test_40 rfl ?_
    refine r_goto (tgt := 47) C dX5_test_42 (by decide) ?_
    refine r_mask [false, false, false] (ls' := [none, none, none]) rfl ?_
    exact wfX5_test_b47 hFR hFb hLC hLb C hk hkS (7 : Int32) r1
def fX5_test (th : Nat) (kS : (Int32 → mm_P → Option mm_P)) (x1 : Int32) (P : mm_P) : Option mm_P :=
  mm_bd (fX5_sums th kS x1 P) fun r1 =>
  mm_bd (fX5_isSign th r1 (60 : Int32)) fun r3 =>
  mm_bd (fX5_hasSign th (60 : Int32) r1) fun r5 =>
  if r5.1 ≠ 0 then
  (fX5_test_b30 th kS x1 r3 r5.2)
  else
  (mm_bd (fX5_hasSign th (61 : Int32) r5.2) fun r8 =>
  if r8.1 = 0 then
  (some r8.2)
  else
  (fX5_test_b30 th kS x1 r3 r8.2))
set_option maxHeartbeats 4000000 in
theorem mc_X5_test {l : Launch} {FRS LCS : Nat} {K : mm_K} {P : mm_P} {th : Nat} {x1 : Int32} {nx sl : Nat} {kS : (Int32 → mm_P → Option mm_P)} {r : mm_P} (hk : K.1 th = 5) (hkS : ∀ (z0 : Int32) (P : mm_P) (r : mm_P), kS z0 P = some r → mm_C l yX5_takePart (ws_ yX5_takePart cX5_takePart 4 none) FRS LCS [.ref th, .int z0] K P nx sl (mm_wwV K nx sl r)) (h : fX5_test th kS x1 P = some r) : mm_C l yX5_test (ws_ yX5_test cX5_test 3 none) (max (FRS + 3) 4) (max (LCS + 66) 86) [.ref th, .int x1] K P nx sl (mm_wwV K nx sl r) :=
  mm_start (ls := [some (.ref th), some (.int x1), none]) h (by decide) (Nat.le_of_ble_eq_true rfl) rfl (Nat.le_refl _) (Nat.le_refl _) rfl fun E hl _ _ _ C => by
  have C : mm_Cx E RX5 cX5_test 3 none (max (FRS + 3) 4) (max (LCS + 66) 86) := C
  generalize hFe : (max (FRS + 3) 4) = FR at C
  generalize hLe : (max (LCS + 66) 86) = LC at C
  have hFR : FRS + 3 ≤ FR := by omega
  have hFb : 4 ≤ FR := by omega
  have hLC : LCS + 66 ≤ LC := by omega
  have hLb : 86 ≤ LC := by omega
  clear hFe hLe h
  subst hl
  unfold fX5_test
  refine r_aload_n C dX5_test_0 rfl rfl ?_
  refine r_iload_n C dX5_test_1 rfl rfl ?_
  refine r_bd fun r1 h2 => ?_
  refine r_callVv (As := [.int x1]) (st := []) C (mc_X5_sums hk hkS h2) cv_X5_267 hk rfl (by omega) (by omega) rfl (Nat.le_of_ble_eq_true rfl) dX5_test_2 ?_
  refine r_aload_n C dX5_test_5 rfl rfl ?_
  refine r_bipush (v := 60) C dX5_test_6 rfl ?_
  refine r_bd fun r3 h4 => ?_
  refine r_callV (As := [.int (60 : Int32)]) (st := []) C (mc_X5_isSign hk h4) cv_X5_180 hk rfl (by omega) (by omega) rfl (Nat.le_of_ble_eq_true rfl) dX5_test_8 ?_
  refine r_istore_n (ls' := [some (.ref th), some (.int x1), some (.int r3)]) C dX5_test_11 rfl (Nat.le_of_ble_eq_true rfl) rfl rfl ?_
  refine r_aload_n C dX5_test_12 rfl rfl ?_
  refine r_bipush (v := 60) C dX5_test_13 rfl ?_
  refine r_bd fun r5 h6 => ?_
  refine r_callV (As := [.int (60 : Int32)]) (st := []) C (mc_X5_hasSign hk h6) cv_X5_270 hk rfl (by omega) (by omega) rfl (Nat.le_of_ble_eq_true rfl) dX5_test_15 ?_
  refine r_ifne (tgt := 30) C dX5_test_18 (by decide) (fun h7 => ?_) (fun h7 => ?_)
  · exact wfX5_test_b30 hFR hFb hLC hLb C hk hkS x1 r3 r5.2
  · refine r_aload_n C dX5_test_21 rfl rfl ?_
    refine r_bipush (v := 61) C dX5_test_22 rfl ?_
    refine r_bd fun r8 h9 => ?_
    refine r_callV (As := [.int (61 : Int32)]) (st := []) C (mc_X5_hasSign hk h9) cv_X5_270 hk rfl (by omega) (by omega) rfl (Nat.le_of_ble_eq_true rfl) dX5_test_24 ?_
    refine r_ifeq (tgt := 51) C dX5_test_27 (by decide) (fun h10 => ?_) (fun h10 => ?_)
    · exact r_vret C dX5_test_51 rfl
    · exact wfX5_test_b30 hFR hFb hLC hLb C hk hkS x1 r3 r8.2
/-! all -/
def fX5_all_b57 (th : Nat) (kS : (Int32 → mm_P → Option mm_P)) (k5 : Int32 → mm_P → Option mm_P) (x1 : Int32) (s1 : Int32) (P : mm_P) : Option mm_P :=
  mm_bd (fX5_emit th s1 (0 : Int32) P) fun r1 =>
  k5 x1 r1
set_option maxHeartbeats 4000000 in
theorem wfX5_all_b57 {E : mm_E} {FR LC FRS LCS : Nat} (hFR : FRS + 4 ≤ FR) (hFb : 5 ≤ FR) (hLC : LCS + 88 ≤ LC) (hLb : 108 ≤ LC) (C : mm_Cx E RX5 cX5_all 3 none FR LC) {K : mm_K} {th : Nat} (hk : K.1 th = 5) {nx sl : Nat} {kS : (Int32 → mm_P → Option mm_P)} (hkS : ∀ (z0 : Int32) (P : mm_P) (r : mm_P), kS z0 P = some r → mm_C (eL E) yX5_takePart (ws_ yX5_takePart cX5_takePart 4 none) FRS LCS [.ref th, .int z0] K P nx sl (mm_wwV K nx sl r)) {k5 : Int32 → mm_P → Option mm_P} (hk5 : ∀ (x1 : Int32) (P : mm_P), mm_V E (mm_wwV K nx sl) 5 [some (.ref th), some (.int x1), none] [] K P nx sl (k5 x1 P)) (x1 : Int32) (s1 : Int32) (P : mm_P) : mm_V E (mm_wwV K nx sl) 57 [some (.ref th), some (.int x1), none] [.int s1, .ref th] K P nx sl (fX5_all_b57 th kS k5 x1 s1 P) := by
  unfold fX5_all_b57
  refine r_iconst (v := 0) C dX5_all_57 rfl ?_
  refine r_bd fun r1 h2 => ?_
  refine r_callVv (As := [.int s1, .int (0 : Int32)]) (st := []) C (mc_X5_emit hk h2) cv_X5_256 hk rfl (by omega) (by omega) rfl (Nat.le_of_ble_eq_true rfl) dX5_all_58 ?_
  refine r_goto (tgt := 5) C dX5_all_61 (by decide) ?_
  exact hk5 x1 r1
def fX5_all_b23 (th : Nat) (kS : (Int32 → mm_P → Option mm_P)) (k5 : Int32 → mm_P → Option mm_P) (x1 : Int32) (P : mm_P) : Option mm_P :=
  mm_bd (fX5_isWord th P (21 : Int32)) fun r1 =>
  mm_lt (sI P 647 th ((gI P 647 th) + (1 : Int32))) fun P3 =>
  mm_bd (fX5_test th kS x1 P3) fun r4 =>
  if r1 = 0 then
  (fX5_all_b57 th kS k5 x1 (10 : Int32) r4)
  else
  (fX5_all_b57 th kS k5 x1 (9 : Int32) r4)
set_option maxHeartbeats 4000000 in
theorem wfX5_all_b23 {E : mm_E} {FR LC FRS LCS : Nat} (hFR : FRS + 4 ≤ FR) (hFb : 5 ≤ FR) (hLC : LCS + 88 ≤ LC) (hLb : 108 ≤ LC) (C : mm_Cx E RX5 cX5_all 3 none FR LC) {K : mm_K} {th : Nat} (hk : K.1 th = 5) {nx sl : Nat} {kS : (Int32 → mm_P → Option mm_P)} (hkS : ∀ (z0 : Int32) (P : mm_P) (r : mm_P), kS z0 P = some r → mm_C (eL E) yX5_takePart (ws_ yX5_takePart cX5_takePart 4 none) FRS LCS [.ref th, .int z0] K P nx sl (mm_wwV K nx sl r)) {k5 : Int32 → mm_P → Option mm_P} (hk5 : ∀ (x1 : Int32) (P : mm_P), mm_V E (mm_wwV K nx sl) 5 [some (.ref th), some (.int x1), none] [] K P nx sl (k5 x1 P)) (x1 : Int32) (P : mm_P) : mm_V E (mm_wwV K nx sl) 23 [some (.ref th), some (.int x1), none] [] K P nx sl (fX5_all_b23 th kS k5 x1 P) := by
  unfold fX5_all_b23
  refine r_aload_n C dX5_all_23 rfl rfl ?_
  refine r_bipush (v := 21) C dX5_all_24 rfl ?_
  refine r_bd fun r1 h2 => ?_
  refine r_callV (As := [.int (21 : Int32)]) (st := []) C (mc_X5_isWord hk h2) cv_X5_186 hk rfl (by omega) (by omega) rfl (Nat.le_of_ble_eq_true rfl) dX5_all_26 ?_
  refine r_istore_n (ls' := [some (.ref th), some (.int x1), some (.int r1)]) C dX5_all_29 rfl (Nat.le_of_ble_eq_true rfl) rfl rfl ?_
  refine r_aload_n C dX5_all_30 rfl rfl ?_
  refine r_dup C dX5_all_31 rfl ?_
  refine r_getI (code := 647) C fl_X5_174 hk rfl dX5_all_32 ?_
  refine r_iconst (v := 1) C dX5_all_35 rfl ?_
  refine r_iadd C dX5_all_36 ?_
  refine r_putI (code := 647) C fl_X5_174 hk rfl rfl dX5_all_37 ?_
  refine r_ltP fun P3 => ?_
  refine r_aload_n C dX5_all_40 rfl rfl ?_
  refine r_iload_n C dX5_all_41 rfl rfl ?_
  refine r_bd fun r4 h5 => ?_
  refine r_callVv (As := [.int x1]) (st := []) C (mc_X5_test hk hkS h5) cv_X5_264 hk rfl (by omega) (by omega) rfl (Nat.le_of_ble_eq_true rfl) dX5_all_42 ?_
  refine r_aload_n C dX5_all_45 rfl rfl ?_
  refine r_iload_n C dX5_all_46 rfl rfl ?_
  refine r_ifeq (tgt := 55) C dX5_all_47 (by decide) (fun h6 => ?_) (fun h6 => ?_)
  · refine r_bipush (v := 10) C dX5_all_55 rfl ?_
    refine r_mask [true, true, false] (ls' := [some (.ref th), some (.int x1), none]) rfl ?_
    exact wfX5_all_b57 hFR hFb hLC hLb C hk hkS hk5 x1 (10 : Int32) r4
  · refine r_bipush (v := 9) C dX5_all_50 rfl ?_
    refine r_goto (tgt := 57) C dX5_all_52 (by decide) ?_
    refine r_mask [true, true, false] (ls' := [some (.ref th), some (.int x1), none]) rfl ?_
    exact wfX5_all_b57 hFR hFb hLC hLb C hk hkS hk5 x1 (9 : Int32) r4
def fX5_all_b5 (th : Nat) (kS : (Int32 → mm_P → Option mm_P))  : Nat → Int32 → mm_P → Option mm_P
  | 0, _, _ => none
  | n + 1, x1, P =>
  mm_bd (fX5_isWord th P (21 : Int32)) fun r1 =>
  if r1 ≠ 0 then
  (fX5_all_b23 th kS (fX5_all_b5 th kS n) x1 P)
  else
  (mm_bd (fX5_isWord th P (22 : Int32)) fun r4 =>
  if r4 = 0 then
  (some P)
  else
  (fX5_all_b23 th kS (fX5_all_b5 th kS n) x1 P))
set_option maxHeartbeats 4000000 in
theorem wfX5_all_b5 {E : mm_E} {FR LC FRS LCS : Nat} (hFR : FRS + 4 ≤ FR) (hFb : 5 ≤ FR) (hLC : LCS + 88 ≤ LC) (hLb : 108 ≤ LC) (C : mm_Cx E RX5 cX5_all 3 none FR LC) {K : mm_K} {th : Nat} (hk : K.1 th = 5) {nx sl : Nat} {kS : (Int32 → mm_P → Option mm_P)} (hkS : ∀ (z0 : Int32) (P : mm_P) (r : mm_P), kS z0 P = some r → mm_C (eL E) yX5_takePart (ws_ yX5_takePart cX5_takePart 4 none) FRS LCS [.ref th, .int z0] K P nx sl (mm_wwV K nx sl r)) : ∀ (n : Nat), ∀ (x1 : Int32) (P : mm_P), mm_V E (mm_wwV K nx sl) 5 [some (.ref th), some (.int x1), none] [] K P nx sl (fX5_all_b5 th kS n x1 P) := by
  intro n
  induction n with
  | zero => intro x1 P; exact r_none
  | succ n ih =>
    intro x1 P
    rw [fX5_all_b5]
    refine r_aload_n C dX5_all_5 rfl rfl ?_
    refine r_bipush (v := 21) C dX5_all_6 rfl ?_
    refine r_bd fun r1 h2 => ?_
    refine r_callV (As := [.int (21 : Int32)]) (st := []) C (mc_X5_isWord hk h2) cv_X5_186 hk rfl (by omega) (by omega) rfl (Nat.le_of_ble_eq_true rfl) dX5_all_8 ?_
    refine r_ifne (tgt := 23) C dX5_all_11 (by decide) (fun h3 => ?_) (fun h3 => ?_)
    · exact wfX5_all_b23 hFR hFb hLC hLb C hk hkS ih x1 P
    · refine r_aload_n C dX5_all_14 rfl rfl ?_
      refine r_bipush (v := 22) C dX5_all_15 rfl ?_
      refine r_bd fun r4 h5 => ?_
      refine r_callV (As := [.int (22 : Int32)]) (st := []) C (mc_X5_isWord hk h5) cv_X5_186 hk rfl (by omega) (by omega) rfl (Nat.le_of_ble_eq_true rfl) dX5_all_17 ?_
      refine r_ifeq (tgt := 64) C dX5_all_20 (by decide) (fun h6 => ?_) (fun h6 => ?_)
      · exact r_vret C dX5_all_64 rfl
      · exact wfX5_all_b23 hFR hFb hLC hLb C hk hkS ih x1 P
def fX5_all (th : Nat) (kS : (Int32 → mm_P → Option mm_P)) (x1 : Int32) (P : mm_P) : Option mm_P :=
  mm_bd (fX5_test th kS x1 P) fun r1 =>
  fX5_all_b5 th kS mm_NF x1 r1
set_option maxHeartbeats 4000000 in
theorem mc_X5_all {l : Launch} {FRS LCS : Nat} {K : mm_K} {P : mm_P} {th : Nat} {x1 : Int32} {nx sl : Nat} {kS : (Int32 → mm_P → Option mm_P)} {r : mm_P} (hk : K.1 th = 5) (hkS : ∀ (z0 : Int32) (P : mm_P) (r : mm_P), kS z0 P = some r → mm_C l yX5_takePart (ws_ yX5_takePart cX5_takePart 4 none) FRS LCS [.ref th, .int z0] K P nx sl (mm_wwV K nx sl r)) (h : fX5_all th kS x1 P = some r) : mm_C l yX5_all (ws_ yX5_all cX5_all 3 none) (max (FRS + 4) 5) (max (LCS + 88) 108) [.ref th, .int x1] K P nx sl (mm_wwV K nx sl r) :=
  mm_start (ls := [some (.ref th), some (.int x1), none]) h (by decide) (Nat.le_of_ble_eq_true rfl) rfl (Nat.le_refl _) (Nat.le_refl _) rfl fun E hl _ _ _ C => by
  have C : mm_Cx E RX5 cX5_all 3 none (max (FRS + 4) 5) (max (LCS + 88) 108) := C
  generalize hFe : (max (FRS + 4) 5) = FR at C
  generalize hLe : (max (LCS + 88) 108) = LC at C
  have hFR : FRS + 4 ≤ FR := by omega
  have hFb : 5 ≤ FR := by omega
  have hLC : LCS + 88 ≤ LC := by omega
  have hLb : 108 ≤ LC := by omega
  clear hFe hLe h
  subst hl
  unfold fX5_all
  refine r_aload_n C dX5_all_0 rfl rfl ?_
  refine r_iload_n C dX5_all_1 rfl rfl ?_
  refine r_bd fun r1 h2 => ?_
  refine r_callVv (As := [.int x1]) (st := []) C (mc_X5_test hk hkS h2) cv_X5_264 hk rfl (by omega) (by omega) rfl (Nat.le_of_ble_eq_true rfl) dX5_all_2 ?_
  exact wfX5_all_b5 hFR hFb hLC hLb C hk hkS mm_NF x1 r1
/-! takeSign -/
def fX5_takeSign (th : Nat) (x1 : Int32) (P : mm_P) : Option mm_P :=
  mm_bd (fX5_isSign th P x1) fun r1 =>
  if r1 = 0 then
  (mm_bd (fX5_wrong th (1 : Int32) P) fun r4 =>
  some r4)
  else
  (mm_lt (sI P 647 th ((gI P 647 th) + (1 : Int32))) fun P6 =>
  some P6)
set_option maxHeartbeats 4000000 in
theorem mc_X5_takeSign {l : Launch} {K : mm_K} {P : mm_P} {th : Nat} {x1 : Int32} {nx sl : Nat} {r : mm_P} (hk : K.1 th = 5) (h : fX5_takeSign th x1 P = some r) : mm_C l yX5_takeSign (ws_ yX5_takeSign cX5_takeSign 2 none) 1 21 [.ref th, .int x1] K P nx sl (mm_wwV K nx sl r) :=
  mm_start (ls := [some (.ref th), some (.int x1)]) h (by decide) (Nat.le_of_ble_eq_true rfl) rfl (Nat.le_refl _) (Nat.le_refl _) rfl fun E hl9 _ _ _ C => by
  have C : mm_Cx E RX5 cX5_takeSign 2 none 1 21 := C
  unfold fX5_takeSign
  refine r_aload_n C dX5_takeSign_0 rfl rfl ?_
  refine r_iload_n C dX5_takeSign_1 rfl rfl ?_
  refine r_bd fun r1 h2 => ?_
  refine r_callV (As := [.int x1]) (st := []) C (mc_X5_isSign hk h2) cv_X5_180 hk rfl (Nat.le_of_ble_eq_true rfl) (Nat.le_of_ble_eq_true rfl) rfl (Nat.le_of_ble_eq_true rfl) dX5_takeSign_2 ?_
  refine r_ifeq (tgt := 21) C dX5_takeSign_5 (by decide) (fun h3 => ?_) (fun h3 => ?_)
  · refine r_aload_n C dX5_takeSign_21 rfl rfl ?_
    refine r_iconst (v := 1) C dX5_takeSign_22 rfl ?_
    refine r_bd fun r4 h5 => ?_
    refine r_callVv (As := [.int (1 : Int32)]) (st := []) C (mc_X5_wrong hk h5) cv_X5_183 hk rfl (Nat.le_of_ble_eq_true rfl) (Nat.le_of_ble_eq_true rfl) rfl (Nat.le_of_ble_eq_true rfl) dX5_takeSign_23 ?_
    exact r_vret C dX5_takeSign_26 rfl
  · refine r_aload_n C dX5_takeSign_8 rfl rfl ?_
    refine r_dup C dX5_takeSign_9 rfl ?_
    refine r_getI (code := 647) C fl_X5_174 hk rfl dX5_takeSign_10 ?_
    refine r_iconst (v := 1) C dX5_takeSign_13 rfl ?_
    refine r_iadd C dX5_takeSign_14 ?_
    refine r_putI (code := 647) C fl_X5_174 hk rfl rfl dX5_takeSign_15 ?_
    refine r_ltP fun P6 => ?_
    refine r_goto (tgt := 26) C dX5_takeSign_18 (by decide) ?_
    exact r_vret C dX5_takeSign_26 rfl
/-! takePart -/
def fX5_takePart_b165 (th : Nat) (kS : (Int32 → mm_P → Option mm_P))  (s1 : Int32) (s2 : Int32) (P : mm_P) : Option mm_P :=
  mm_bd (fX5_emit th s1 s2 P) fun r1 =>
  mm_lt (sI r1 647 th ((gI r1 647 th) + (1 : Int32))) fun P3 =>
  some P3
set_option maxHeartbeats 4000000 in
theorem wfX5_takePart_b165 {E : mm_E} {FR LC FRS LCS : Nat} (hFR : FRS + 5 ≤ FR) (hFb : 6 ≤ FR) (hLC : LCS + 110 ≤ LC) (hLb : 130 ≤ LC) (C : mm_Cx E RX5 cX5_takePart 4 none FR LC) {K : mm_K} {th : Nat} (hk : K.1 th = 5) {nx sl : Nat} {kS : (Int32 → mm_P → Option mm_P)} (hkS : ∀ (z0 : Int32) (P : mm_P) (r : mm_P), kS z0 P = some r → mm_C (eL E) yX5_takePart (ws_ yX5_takePart cX5_takePart 4 none) FRS LCS [.ref th, .int z0] K P nx sl (mm_wwV K nx sl r)) (s1 : Int32) (s2 : Int32) (P : mm_P) : mm_V E (mm_wwV K nx sl) 165 [some (.ref th), none, none, none] [.int s2, .int s1, .ref th] K P nx sl (fX5_takePart_b165 th kS s1 s2 P) := by
  unfold fX5_takePart_b165
  refine r_bd fun r1 h2 => ?_
  refine r_callVv (As := [.int s1, .int s2]) (st := []) C (mc_X5_emit hk h2) cv_X5_256 hk rfl (by omega) (by omega) rfl (Nat.le_of_ble_eq_true rfl) dX5_takePart_165 ?_
  refine r_aload_n C dX5_takePart_168 rfl rfl ?_
  refine r_dup C dX5_takePart_169 rfl ?_
  refine r_getI (code := 647) C fl_X5_174 hk rfl dX5_takePart_170 ?_
  refine r_iconst (v := 1) C dX5_takePart_173 rfl ?_
  refine r_iadd C dX5_takePart_174 ?_
  refine r_putI (code := 647) C fl_X5_174 hk rfl rfl dX5_takePart_175 ?_
  refine r_ltP fun P3 => ?_
  exact r_vret C dX5_takePart_178 rfl
def fX5_takePart_b147 (th : Nat) (kS : (Int32 → mm_P → Option mm_P))  (x2 : Int32) (x3 : Int32) (s1 : Int32) (P : mm_P) : Option mm_P :=
  if x2 = 0 then
  (fX5_takePart_b165 th kS s1 x3 P)
  else
  (mm_gd (mm_in (gI P 647 th) 1002) <|
  fX5_takePart_b165 th kS s1 ((gL P 646 th (gI P 647 th).toNatClampNeg).toInt32) P)
set_option maxHeartbeats 4000000 in
theorem wfX5_takePart_b147 {E : mm_E} {FR LC FRS LCS : Nat} (hFR : FRS + 5 ≤ FR) (hFb : 6 ≤ FR) (hLC : LCS + 110 ≤ LC) (hLb : 130 ≤ LC) (C : mm_Cx E RX5 cX5_takePart 4 none FR LC) {K : mm_K} {th : Nat} (hk : K.1 th = 5) {nx sl : Nat} {kS : (Int32 → mm_P → Option mm_P)} (hkS : ∀ (z0 : Int32) (P : mm_P) (r : mm_P), kS z0 P = some r → mm_C (eL E) yX5_takePart (ws_ yX5_takePart cX5_takePart 4 none) FRS LCS [.ref th, .int z0] K P nx sl (mm_wwV K nx sl r)) (x2 : Int32) (x3 : Int32) (s1 : Int32) (P : mm_P) : mm_V E (mm_wwV K nx sl) 147 [some (.ref th), none, some (.int x2), some (.int x3)] [.int s1, .ref th] K P nx sl (fX5_takePart_b147 th kS x2 x3 s1 P) := by
  unfold fX5_takePart_b147
  refine r_iload_n C dX5_takePart_147 rfl rfl ?_
  refine r_ifeq (tgt := 164) C dX5_takePart_148 (by decide) (fun h1 => ?_) (fun h1 => ?_)
  · refine r_iload_n C dX5_takePart_164 rfl rfl ?_
    refine r_mask [true, true, false, false] (ls' := [some (.ref th), none, none, none]) rfl ?_
    exact wfX5_takePart_b165 hFR hFb hLC hLb C hk hkS s1 x3 P
  · refine r_aload_n C dX5_takePart_151 rfl rfl ?_
    refine r_getA C fl_X5_30 hk dX5_takePart_152 ?_
    refine r_aload_n C dX5_takePart_155 rfl rfl ?_
    refine r_getI (code := 647) C fl_X5_174 hk rfl dX5_takePart_156 ?_
    refine r_lald C (rg_646 hk) rfl dX5_takePart_159 fun h2 => ?_
    refine r_l2i C dX5_takePart_160 ?_
    refine r_goto (tgt := 165) C dX5_takePart_161 (by decide) ?_
    refine r_mask [true, true, false, false] (ls' := [some (.ref th), none, none, none]) rfl ?_
    exact wfX5_takePart_b165 hFR hFb hLC hLb C hk hkS s1 ((gL P 646 th (gI P 647 th).toNatClampNeg).toInt32) P
def fX5_takePart_b79 (th : Nat) (kS : (Int32 → mm_P → Option mm_P))  (x1 : Int32) (x2 : Int32) (x3 : Int32) (P : mm_P) : Option mm_P :=
  if (gI P 648 th) ≤ 0 then
  (mm_bd (fX5_hasWord th (20 : Int32) P) fun r2 =>
  if r2.1 = 0 then
  (mm_bd (fX5_hasSign th (40 : Int32) r2.2) fun r5 =>
  if r5.1 = 0 then
  (if x2 = 0 then
  (fX5_takePart_b147 th kS x2 x3 (2 : Int32) r5.2)
  else
  (fX5_takePart_b147 th kS x2 x3 (1 : Int32) r5.2))
  else
  (mm_bd (fX5_all th kS (x1 + (1 : Int32)) r5.2) fun r9 =>
  mm_bd (fX5_takeSign th (41 : Int32) r9) fun r11 =>
  some r11))
  else
  (mm_bd (kS (x1 + (1 : Int32)) r2.2) fun r13 =>
  mm_bd (fX5_emit th (3 : Int32) (0 : Int32) r13) fun r15 =>
  some r15))
  else
  (some P)
set_option maxHeartbeats 4000000 in
theorem wfX5_takePart_b79 {E : mm_E} {FR LC FRS LCS : Nat} (hFR : FRS + 5 ≤ FR) (hFb : 6 ≤ FR) (hLC : LCS + 110 ≤ LC) (hLb : 130 ≤ LC) (C : mm_Cx E RX5 cX5_takePart 4 none FR LC) {K : mm_K} {th : Nat} (hk : K.1 th = 5) {nx sl : Nat} {kS : (Int32 → mm_P → Option mm_P)} (hkS : ∀ (z0 : Int32) (P : mm_P) (r : mm_P), kS z0 P = some r → mm_C (eL E) yX5_takePart (ws_ yX5_takePart cX5_takePart 4 none) FRS LCS [.ref th, .int z0] K P nx sl (mm_wwV K nx sl r)) (x1 : Int32) (x2 : Int32) (x3 : Int32) (P : mm_P) : mm_V E (mm_wwV K nx sl) 79 [some (.ref th), some (.int x1), some (.int x2), some (.int x3)] [] K P nx sl (fX5_takePart_b79 th kS x1 x2 x3 P) := by
  unfold fX5_takePart_b79
  refine r_aload_n C dX5_takePart_79 rfl rfl ?_
  refine r_getI (code := 648) C fl_X5_177 hk rfl dX5_takePart_80 ?_
  refine r_ifle (tgt := 87) C dX5_takePart_83 (by decide) (fun h1 => ?_) (fun h1 => ?_)
  · refine r_aload_n C dX5_takePart_87 rfl rfl ?_
    refine r_bipush (v := 20) C dX5_takePart_88 rfl ?_
    refine r_bd fun r2 h3 => ?_
    refine r_callV (As := [.int (20 : Int32)]) (st := []) C (mc_X5_hasWord hk h3) cv_X5_189 hk rfl (by omega) (by omega) rfl (Nat.le_of_ble_eq_true rfl) dX5_takePart_90 ?_
    refine r_ifeq (tgt := 112) C dX5_takePart_93 (by decide) (fun h4 => ?_) (fun h4 => ?_)
    · refine r_aload_n C dX5_takePart_112 rfl rfl ?_
      refine r_bipush (v := 40) C dX5_takePart_113 rfl ?_
      refine r_bd fun r5 h6 => ?_
      refine r_callV (As := [.int (40 : Int32)]) (st := []) C (mc_X5_hasSign hk h6) cv_X5_270 hk rfl (by omega) (by omega) rfl (Nat.le_of_ble_eq_true rfl) dX5_takePart_115 ?_
      refine r_ifeq (tgt := 137) C dX5_takePart_118 (by decide) (fun h7 => ?_) (fun h7 => ?_)
      · refine r_aload_n C dX5_takePart_137 rfl rfl ?_
        refine r_iload_n C dX5_takePart_138 rfl rfl ?_
        refine r_ifeq (tgt := 146) C dX5_takePart_139 (by decide) (fun h8 => ?_) (fun h8 => ?_)
        · refine r_iconst (v := 2) C dX5_takePart_146 rfl ?_
          refine r_mask [true, false, true, true] (ls' := [some (.ref th), none, some (.int x2), some (.int x3)]) rfl ?_
          exact wfX5_takePart_b147 hFR hFb hLC hLb C hk hkS x2 x3 (2 : Int32) r5.2
        · refine r_iconst (v := 1) C dX5_takePart_142 rfl ?_
          refine r_goto (tgt := 147) C dX5_takePart_143 (by decide) ?_
          refine r_mask [true, false, true, true] (ls' := [some (.ref th), none, some (.int x2), some (.int x3)]) rfl ?_
          exact wfX5_takePart_b147 hFR hFb hLC hLb C hk hkS x2 x3 (1 : Int32) r5.2
      · refine r_aload_n C dX5_takePart_121 rfl rfl ?_
        refine r_iload_n C dX5_takePart_122 rfl rfl ?_
        refine r_iconst (v := 1) C dX5_takePart_123 rfl ?_
        refine r_iadd C dX5_takePart_124 ?_
        refine r_bd fun r9 h10 => ?_
        refine r_callVv (As := [.int (x1 + (1 : Int32))]) (st := []) C (mc_X5_all hk hkS h10) cv_X5_253 hk rfl (by omega) (by omega) rfl (Nat.le_of_ble_eq_true rfl) dX5_takePart_125 ?_
        refine r_aload_n C dX5_takePart_128 rfl rfl ?_
        refine r_bipush (v := 41) C dX5_takePart_129 rfl ?_
        refine r_bd fun r11 h12 => ?_
        refine r_callVv (As := [.int (41 : Int32)]) (st := []) C (mc_X5_takeSign hk h12) cv_X5_237 hk rfl (by omega) (by omega) rfl (Nat.le_of_ble_eq_true rfl) dX5_takePart_131 ?_
        refine r_goto (tgt := 178) C dX5_takePart_134 (by decide) ?_
        exact r_vret C dX5_takePart_178 rfl
    · refine r_aload_n C dX5_takePart_96 rfl rfl ?_
      refine r_iload_n C dX5_takePart_97 rfl rfl ?_
      refine r_iconst (v := 1) C dX5_takePart_98 rfl ?_
      refine r_iadd C dX5_takePart_99 ?_
      refine r_bd fun r13 h14 => ?_
      refine r_callVv (As := [.int (x1 + (1 : Int32))]) (st := []) C (hkS _ _ _ h14) cv_X5_276 hk rfl (by omega) (by omega) rfl (Nat.le_of_ble_eq_true rfl) dX5_takePart_100 ?_
      refine r_aload_n C dX5_takePart_103 rfl rfl ?_
      refine r_iconst (v := 3) C dX5_takePart_104 rfl ?_
      refine r_iconst (v := 0) C dX5_takePart_105 rfl ?_
      refine r_bd fun r15 h16 => ?_
      refine r_callVv (As := [.int (3 : Int32), .int (0 : Int32)]) (st := []) C (mc_X5_emit hk h16) cv_X5_256 hk rfl (by omega) (by omega) rfl (Nat.le_of_ble_eq_true rfl) dX5_takePart_106 ?_
      refine r_goto (tgt := 178) C dX5_takePart_109 (by decide) ?_
      exact r_vret C dX5_takePart_178 rfl
  · exact r_vret C dX5_takePart_86 rfl
def fX5_takePart_b69 (th : Nat) (kS : (Int32 → mm_P → Option mm_P))  (x1 : Int32) (x2 : Int32) (x3 : Int32) (P : mm_P) : Option mm_P :=
  if x1 ≠ (5 : Int32) then
  (fX5_takePart_b79 th kS x1 x2 x3 P)
  else
  (mm_bd (fX5_wrong th (5 : Int32) P) fun r2 =>
  fX5_takePart_b79 th kS x1 x2 x3 r2)
set_option maxHeartbeats 4000000 in
theorem wfX5_takePart_b69 {E : mm_E} {FR LC FRS LCS : Nat} (hFR : FRS + 5 ≤ FR) (hFb : 6 ≤ FR) (hLC : LCS + 110 ≤ LC) (hLb : 130 ≤ LC) (C : mm_Cx E RX5 cX5_takePart 4 none FR LC) {K : mm_K} {th : Nat} (hk : K.1 th = 5) {nx sl : Nat} {kS : (Int32 → mm_P → Option mm_P)} (hkS : ∀ (z0 : Int32) (P : mm_P) (r : mm_P), kS z0 P = some r → mm_C (eL E) yX5_takePart (ws_ yX5_takePart cX5_takePart 4 none) FRS LCS [.ref th, .int z0] K P nx sl (mm_wwV K nx sl r)) (x1 : Int32) (x2 : Int32) (x3 : Int32) (P : mm_P) : mm_V E (mm_wwV K nx sl) 69 [some (.ref th), some (.int x1), some (.int x2), some (.int x3)] [] K P nx sl (fX5_takePart_b69 th kS x1 x2 x3 P) := by
  unfold fX5_takePart_b69
  refine r_iload_n C dX5_takePart_69 rfl rfl ?_
  refine r_iconst (v := 5) C dX5_takePart_70 rfl ?_
  refine r_icmpne (tgt := 79) C dX5_takePart_71 (by decide) (fun h1 => ?_) (fun h1 => ?_)
  · exact wfX5_takePart_b79 hFR hFb hLC hLb C hk hkS x1 x2 x3 P
  · refine r_aload_n C dX5_takePart_74 rfl rfl ?_
    refine r_iconst (v := 5) C dX5_takePart_75 rfl ?_
    refine r_bd fun r2 h3 => ?_
    refine r_callVv (As := [.int (5 : Int32)]) (st := []) C (mc_X5_wrong hk h3) cv_X5_183 hk rfl (by omega) (by omega) rfl (Nat.le_of_ble_eq_true rfl) dX5_takePart_76 ?_
    exact wfX5_takePart_b79 hFR hFb hLC hLb C hk hkS x1 x2 x3 r2
def fX5_takePart_b26 (th : Nat) (kS : (Int32 → mm_P → Option mm_P))  (x1 : Int32) (s0 : Int32) (P : mm_P) : Option mm_P :=
  mm_bd (fX5_wordHere th P (23 : Int32) (3 : Int32)) fun r1 =>
  if 0 ≤ r1 then
  (fX5_takePart_b69 th kS x1 s0 r1 P)
  else
  (if s0 ≠ 0 then
  (fX5_takePart_b69 th kS x1 s0 r1 P)
  else
  (mm_bd (fX5_isSign th P (40 : Int32)) fun r5 =>
  if r5 ≠ 0 then
  (fX5_takePart_b69 th kS x1 s0 r1 P)
  else
  (mm_bd (fX5_isWord th P (20 : Int32)) fun r8 =>
  if r8 ≠ 0 then
  (fX5_takePart_b69 th kS x1 s0 r1 P)
  else
  (mm_bd (fX5_wrong th (1 : Int32) P) fun r11 =>
  fX5_takePart_b79 th kS x1 s0 r1 r11))))
set_option maxHeartbeats 4000000 in
theorem wfX5_takePart_b26 {E : mm_E} {FR LC FRS LCS : Nat} (hFR : FRS + 5 ≤ FR) (hFb : 6 ≤ FR) (hLC : LCS + 110 ≤ LC) (hLb : 130 ≤ LC) (C : mm_Cx E RX5 cX5_takePart 4 none FR LC) {K : mm_K} {th : Nat} (hk : K.1 th = 5) {nx sl : Nat} {kS : (Int32 → mm_P → Option mm_P)} (hkS : ∀ (z0 : Int32) (P : mm_P) (r : mm_P), kS z0 P = some r → mm_C (eL E) yX5_takePart (ws_ yX5_takePart cX5_takePart 4 none) FRS LCS [.ref th, .int z0] K P nx sl (mm_wwV K nx sl r)) (x1 : Int32) (s0 : Int32) (P : mm_P) : mm_V E (mm_wwV K nx sl) 26 [some (.ref th), some (.int x1), none, none] [.int s0] K P nx sl (fX5_takePart_b26 th kS x1 s0 P) := by
  unfold fX5_takePart_b26
  refine r_istore_n (ls' := [some (.ref th), some (.int x1), some (.int s0), none]) C dX5_takePart_26 rfl (Nat.le_of_ble_eq_true rfl) rfl rfl ?_
  refine r_aload_n C dX5_takePart_27 rfl rfl ?_
  refine r_bipush (v := 23) C dX5_takePart_28 rfl ?_
  refine r_iconst (v := 3) C dX5_takePart_30 rfl ?_
  refine r_bd fun r1 h2 => ?_
  refine r_callV (As := [.int (23 : Int32), .int (3 : Int32)]) (st := []) C (mc_X5_wordHere hk h2) cv_X5_199 hk rfl (by omega) (by omega) rfl (Nat.le_of_ble_eq_true rfl) dX5_takePart_31 ?_
  refine r_istore_n (ls' := [some (.ref th), some (.int x1), some (.int s0), some (.int r1)]) C dX5_takePart_34 rfl (Nat.le_of_ble_eq_true rfl) rfl rfl ?_
  refine r_iload_n C dX5_takePart_35 rfl rfl ?_
  refine r_ifge (tgt := 69) C dX5_takePart_36 (by decide) (fun h3 => ?_) (fun h3 => ?_)
  · exact wfX5_takePart_b69 hFR hFb hLC hLb C hk hkS x1 s0 r1 P
  · refine r_iload_n C dX5_takePart_39 rfl rfl ?_
    refine r_ifne (tgt := 69) C dX5_takePart_40 (by decide) (fun h4 => ?_) (fun h4 => ?_)
    · exact wfX5_takePart_b69 hFR hFb hLC hLb C hk hkS x1 s0 r1 P
    · refine r_aload_n C dX5_takePart_43 rfl rfl ?_
      refine r_bipush (v := 40) C dX5_takePart_44 rfl ?_
      refine r_bd fun r5 h6 => ?_
      refine r_callV (As := [.int (40 : Int32)]) (st := []) C (mc_X5_isSign hk h6) cv_X5_180 hk rfl (by omega) (by omega) rfl (Nat.le_of_ble_eq_true rfl) dX5_takePart_46 ?_
      refine r_ifne (tgt := 69) C dX5_takePart_49 (by decide) (fun h7 => ?_) (fun h7 => ?_)
      · exact wfX5_takePart_b69 hFR hFb hLC hLb C hk hkS x1 s0 r1 P
      · refine r_aload_n C dX5_takePart_52 rfl rfl ?_
        refine r_bipush (v := 20) C dX5_takePart_53 rfl ?_
        refine r_bd fun r8 h9 => ?_
        refine r_callV (As := [.int (20 : Int32)]) (st := []) C (mc_X5_isWord hk h9) cv_X5_186 hk rfl (by omega) (by omega) rfl (Nat.le_of_ble_eq_true rfl) dX5_takePart_55 ?_
        refine r_ifne (tgt := 69) C dX5_takePart_58 (by decide) (fun h10 => ?_) (fun h10 => ?_)
        · exact wfX5_takePart_b69 hFR hFb hLC hLb C hk hkS x1 s0 r1 P
        · refine r_aload_n C dX5_takePart_61 rfl rfl ?_
          refine r_iconst (v := 1) C dX5_takePart_62 rfl ?_
          refine r_bd fun r11 h12 => ?_
          refine r_callVv (As := [.int (1 : Int32)]) (st := []) C (mc_X5_wrong hk h12) cv_X5_183 hk rfl (by omega) (by omega) rfl (Nat.le_of_ble_eq_true rfl) dX5_takePart_63 ?_
          refine r_goto (tgt := 79) C dX5_takePart_66 (by decide) ?_
          exact wfX5_takePart_b79 hFR hFb hLC hLb C hk hkS x1 s0 r1 r11
def fX5_takePart_o (th : Nat) (kS : (Int32 → mm_P → Option mm_P)) (x1 : Int32) (P : mm_P) : Option mm_P :=
  if (gI P 648 th) ≤ 0 then
  (mm_gd (mm_in (gI P 647 th) 1002) <|
  if (gA P 644 th (gI P 647 th).toNatClampNeg) ≠ (2 : Int32) then
  (fX5_takePart_b26 th kS x1 (0 : Int32) P)
  else
  (fX5_takePart_b26 th kS x1 (1 : Int32) P))
  else
  (some P)
def fX5_takePart (th : Nat) : Nat → Int32 → mm_P → Option mm_P
  | 0, _, _ => none
  | d + 1, x1, P => fX5_takePart_o th (fX5_takePart th d) x1 P
set_option maxHeartbeats 4000000 in
theorem mc_X5_takePart {l : Launch} {K : mm_K} {th : Nat} {nx sl : Nat} : ∀ (d : Nat) {x1 : Int32} {P : mm_P} {r : mm_P} (hk : K.1 th = 5) (_ : fX5_takePart th d x1 P = some r), mm_C l yX5_takePart (ws_ yX5_takePart cX5_takePart 4 none) (5 * d + 6) (110 * d + 130) [.ref th, .int x1] K P nx sl (mm_wwV K nx sl r) := by
  intro d
  induction d with
  | zero => intro x1 P r hk h; cases h
  | succ d ih =>
  intro x1 P r hk h
  refine mm_start (ls := [some (.ref th), some (.int x1), none, none]) (x := fX5_takePart_o th (fX5_takePart th d) x1 P) h (by decide) (Nat.le_of_ble_eq_true rfl) rfl (Nat.le_refl _) (Nat.le_refl _) rfl fun E hl _ _ _ C => ?_
  have C : mm_Cx E RX5 cX5_takePart 4 none (5 * (d + 1) + 6) (110 * (d + 1) + 130) := C
  generalize hFe : (5 * (d + 1) + 6) = FR at C
  generalize hLe : (110 * (d + 1) + 130) = LC at C
  generalize hFs : (5 * d + 6) = FRS at ih
  generalize hLs : (110 * d + 130) = LCS at ih
  have hFR : FRS + 5 ≤ FR := by omega
  have hFb : 6 ≤ FR := by omega
  have hLC : LCS + 110 ≤ LC := by omega
  have hLb : 130 ≤ LC := by omega
  subst hl
  have hkS := fun x1 P r (hq : fX5_takePart th d x1 P = some r) => ih hk hq
  clear hFe hLe h hFs hLs ih
  generalize fX5_takePart th d = kS at hkS ⊢
  unfold fX5_takePart_o
  refine r_aload_n C dX5_takePart_0 rfl rfl ?_
  refine r_getI (code := 648) C fl_X5_177 hk rfl dX5_takePart_1 ?_
  refine r_ifle (tgt := 8) C dX5_takePart_4 (by decide) (fun h1 => ?_) (fun h1 => ?_)
  · refine r_aload_n C dX5_takePart_8 rfl rfl ?_
    refine r_getA C fl_X5_24 hk dX5_takePart_9 ?_
    refine r_aload_n C dX5_takePart_12 rfl rfl ?_
    refine r_getI (code := 647) C fl_X5_174 hk rfl dX5_takePart_13 ?_
    refine r_iald C (rg_644 hk) rfl dX5_takePart_16 fun h2 => ?_
    refine r_iconst (v := 2) C dX5_takePart_17 rfl ?_
    refine r_icmpne (tgt := 25) C dX5_takePart_18 (by decide) (fun h3 => ?_) (fun h3 => ?_)
    · refine r_iconst (v := 0) C dX5_takePart_25 rfl ?_
      exact wfX5_takePart_b26 hFR hFb hLC hLb C hk hkS x1 (0 : Int32) P
    · refine r_iconst (v := 1) C dX5_takePart_21 rfl ?_
      refine r_goto (tgt := 26) C dX5_takePart_22 (by decide) ?_
      exact wfX5_takePart_b26 hFR hFb hLC hLb C hk hkS x1 (1 : Int32) P
  · exact r_vret C dX5_takePart_7 rfl
/-! readOnce -/
def fX5_readOnce_b62 (th : Nat)  (x1 : Int32) (P : mm_P) : Option mm_P :=
  if (gI P 648 th) ≤ 0 then
  (mm_lt (sI P 658 th ((gI P 658 th) ||| (mm_shl (1 : Int32) x1))) fun P2 =>
  mm_lt (sI P2 647 th ((gI P2 647 th) + (1 : Int32))) fun P3 =>
  if x1 ≠ 0 then
  (if x1 ≠ (1 : Int32) then
  (if x1 ≠ (2 : Int32) then
  (if x1 ≠ (3 : Int32) then
  (mm_gd (mm_in (((106 : Int32) + x1) - (4 : Int32)) 200) <|
  mm_lt (sA P3 650 th (((106 : Int32) + x1) - (4 : Int32)).toNatClampNeg (gI P3 653 th)) fun P9 =>
  mm_bd (fX5_all th (fX5_takePart th 8) (0 : Int32) P9) fun r10 =>
  mm_bd (fX5_emit th (0 : Int32) (0 : Int32) r10) fun r12 =>
  some r12)
  else
  (mm_bd (fX5_takeNumber th (0 : Int32) (10 : Int32) P3) fun r14 =>
  mm_gd (mm_in (104 : Int32) 200) <|
  mm_lt (sA r14.2 650 th (104 : Int32).toNatClampNeg r14.1) fun P17 =>
  some P17))
  else
  (mm_bd (fX5_takeNumber th (1 : Int32) (60 : Int32) P3) fun r18 =>
  mm_gd (mm_in (103 : Int32) 200) <|
  mm_lt (sA r18.2 650 th (103 : Int32).toNatClampNeg r18.1) fun P21 =>
  some P21))
  else
  (mm_bd (fX5_readRow th (76 : Int32) (12 : Int32) (0 : Int32) P3) fun r22 =>
  mm_gd (mm_in (102 : Int32) 200) <|
  mm_lt (sA r22.2 650 th (102 : Int32).toNatClampNeg r22.1) fun P25 =>
  some P25))
  else
  (mm_bd (fX5_readRow th (68 : Int32) (8 : Int32) (1 : Int32) P3) fun r26 =>
  mm_gd (mm_in (101 : Int32) 200) <|
  mm_lt (sA r26.2 650 th (101 : Int32).toNatClampNeg r26.1) fun P29 =>
  some P29))
  else
  (some P)
set_option maxHeartbeats 4000000 in
theorem wfX5_readOnce_b62 {E : mm_E} (C : mm_Cx E RX5 cX5_readOnce 2 none 51 1120) {K : mm_K} {th : Nat} (hk : K.1 th = 5) {nx sl : Nat} (x1 : Int32) (P : mm_P) : mm_V E (mm_wwV K nx sl) 62 [some (.ref th), some (.int x1)] [] K P nx sl (fX5_readOnce_b62 th x1 P) := by
  unfold fX5_readOnce_b62
  refine r_aload_n C dX5_readOnce_62 rfl rfl ?_
  refine r_getI (code := 648) C fl_X5_177 hk rfl dX5_readOnce_63 ?_
  refine r_ifle (tgt := 70) C dX5_readOnce_66 (by decide) (fun h1 => ?_) (fun h1 => ?_)
  · refine r_aload_n C dX5_readOnce_70 rfl rfl ?_
    refine r_dup C dX5_readOnce_71 rfl ?_
    refine r_getI (code := 658) C fl_X5_225 hk rfl dX5_readOnce_72 ?_
    refine r_iconst (v := 1) C dX5_readOnce_75 rfl ?_
    refine r_iload_n C dX5_readOnce_76 rfl rfl ?_
    refine r_ishl C dX5_readOnce_77 ?_
    refine r_ior C dX5_readOnce_78 ?_
    refine r_putI (code := 658) C fl_X5_225 hk rfl rfl dX5_readOnce_79 ?_
    refine r_ltP fun P2 => ?_
    refine r_aload_n C dX5_readOnce_82 rfl rfl ?_
    refine r_dup C dX5_readOnce_83 rfl ?_
    refine r_getI (code := 647) C fl_X5_174 hk rfl dX5_readOnce_84 ?_
    refine r_iconst (v := 1) C dX5_readOnce_87 rfl ?_
    refine r_iadd C dX5_readOnce_88 ?_
    refine r_putI (code := 647) C fl_X5_174 hk rfl rfl dX5_readOnce_89 ?_
    refine r_ltP fun P3 => ?_
    refine r_iload_n C dX5_readOnce_92 rfl rfl ?_
    refine r_ifne (tgt := 115) C dX5_readOnce_93 (by decide) (fun h4 => ?_) (fun h4 => ?_)
    · refine r_iload_n C dX5_readOnce_115 rfl rfl ?_
      refine r_iconst (v := 1) C dX5_readOnce_116 rfl ?_
      refine r_icmpne (tgt := 139) C dX5_readOnce_117 (by decide) (fun h5 => ?_) (fun h5 => ?_)
      · refine r_iload_n C dX5_readOnce_139 rfl rfl ?_
        refine r_iconst (v := 2) C dX5_readOnce_140 rfl ?_
        refine r_icmpne (tgt := 161) C dX5_readOnce_141 (by decide) (fun h6 => ?_) (fun h6 => ?_)
        · refine r_iload_n C dX5_readOnce_161 rfl rfl ?_
          refine r_iconst (v := 3) C dX5_readOnce_162 rfl ?_
          refine r_icmpne (tgt := 183) C dX5_readOnce_163 (by decide) (fun h7 => ?_) (fun h7 => ?_)
          · refine r_aload_n C dX5_readOnce_183 rfl rfl ?_
            refine r_getA C fl_X5_89 hk dX5_readOnce_184 ?_
            refine r_bipush (v := 106) C dX5_readOnce_187 rfl ?_
            refine r_iload_n C dX5_readOnce_189 rfl rfl ?_
            refine r_iadd C dX5_readOnce_190 ?_
            refine r_iconst (v := 4) C dX5_readOnce_191 rfl ?_
            refine r_isub C dX5_readOnce_192 ?_
            refine r_aload_n C dX5_readOnce_193 rfl rfl ?_
            refine r_getI (code := 653) C fl_X5_222 hk rfl dX5_readOnce_194 ?_
            refine r_iast C (rg_650 hk) (mm_ro_of (k := 5) hk rfl) rfl dX5_readOnce_197 fun h8 => ?_
            refine r_ltP fun P9 => ?_
            refine r_aload_n C dX5_readOnce_198 rfl rfl ?_
            refine r_iconst (v := 0) C dX5_readOnce_199 rfl ?_
            refine r_bd fun r10 h11 => ?_
            refine r_callVv (As := [.int (0 : Int32)]) (st := []) C (mc_X5_all hk (fun _ _ _ hq => mc_X5_takePart 8 hk hq) h11) cv_X5_253 hk rfl (Nat.le_of_ble_eq_true rfl) (Nat.le_of_ble_eq_true rfl) rfl (Nat.le_of_ble_eq_true rfl) dX5_readOnce_200 ?_
            refine r_aload_n C dX5_readOnce_203 rfl rfl ?_
            refine r_iconst (v := 0) C dX5_readOnce_204 rfl ?_
            refine r_iconst (v := 0) C dX5_readOnce_205 rfl ?_
            refine r_bd fun r12 h13 => ?_
            refine r_callVv (As := [.int (0 : Int32), .int (0 : Int32)]) (st := []) C (mc_X5_emit hk h13) cv_X5_256 hk rfl (Nat.le_of_ble_eq_true rfl) (Nat.le_of_ble_eq_true rfl) rfl (Nat.le_of_ble_eq_true rfl) dX5_readOnce_206 ?_
            exact r_vret C dX5_readOnce_209 rfl
          · refine r_aload_n C dX5_readOnce_166 rfl rfl ?_
            refine r_getA C fl_X5_89 hk dX5_readOnce_167 ?_
            refine r_bipush (v := 104) C dX5_readOnce_170 rfl ?_
            refine r_aload_n C dX5_readOnce_172 rfl rfl ?_
            refine r_iconst (v := 0) C dX5_readOnce_173 rfl ?_
            refine r_bipush (v := 10) C dX5_readOnce_174 rfl ?_
            refine r_bd fun r14 h15 => ?_
            refine r_callV (As := [.int (0 : Int32), .int (10 : Int32)]) (st := [.int (104 : Int32), .ref (th + 6)]) C (mc_X5_takeNumber hk h15) cv_X5_195 hk rfl (Nat.le_of_ble_eq_true rfl) (Nat.le_of_ble_eq_true rfl) rfl (Nat.le_of_ble_eq_true rfl) dX5_readOnce_176 ?_
            refine r_iast C (rg_650 hk) (mm_ro_of (k := 5) hk rfl) rfl dX5_readOnce_179 fun h16 => ?_
            refine r_ltP fun P17 => ?_
            refine r_goto (tgt := 209) C dX5_readOnce_180 (by decide) ?_
            exact r_vret C dX5_readOnce_209 rfl
        · refine r_aload_n C dX5_readOnce_144 rfl rfl ?_
          refine r_getA C fl_X5_89 hk dX5_readOnce_145 ?_
          refine r_bipush (v := 103) C dX5_readOnce_148 rfl ?_
          refine r_aload_n C dX5_readOnce_150 rfl rfl ?_
          refine r_iconst (v := 1) C dX5_readOnce_151 rfl ?_
          refine r_bipush (v := 60) C dX5_readOnce_152 rfl ?_
          refine r_bd fun r18 h19 => ?_
          refine r_callV (As := [.int (1 : Int32), .int (60 : Int32)]) (st := [.int (103 : Int32), .ref (th + 6)]) C (mc_X5_takeNumber hk h19) cv_X5_195 hk rfl (Nat.le_of_ble_eq_true rfl) (Nat.le_of_ble_eq_true rfl) rfl (Nat.le_of_ble_eq_true rfl) dX5_readOnce_154 ?_
          refine r_iast C (rg_650 hk) (mm_ro_of (k := 5) hk rfl) rfl dX5_readOnce_157 fun h20 => ?_
          refine r_ltP fun P21 => ?_
          refine r_goto (tgt := 209) C dX5_readOnce_158 (by decide) ?_
          exact r_vret C dX5_readOnce_209 rfl
      · refine r_aload_n C dX5_readOnce_120 rfl rfl ?_
        refine r_getA C fl_X5_89 hk dX5_readOnce_121 ?_
        refine r_bipush (v := 102) C dX5_readOnce_124 rfl ?_
        refine r_aload_n C dX5_readOnce_126 rfl rfl ?_
        refine r_bipush (v := 76) C dX5_readOnce_127 rfl ?_
        refine r_bipush (v := 12) C dX5_readOnce_129 rfl ?_
        refine r_iconst (v := 0) C dX5_readOnce_131 rfl ?_
        refine r_bd fun r22 h23 => ?_
        refine r_callV (As := [.int (76 : Int32), .int (12 : Int32), .int (0 : Int32)]) (st := [.int (102 : Int32), .ref (th + 6)]) C (mc_X5_readRow hk h23) cv_X5_250 hk rfl (Nat.le_of_ble_eq_true rfl) (Nat.le_of_ble_eq_true rfl) rfl (Nat.le_of_ble_eq_true rfl) dX5_readOnce_132 ?_
        refine r_iast C (rg_650 hk) (mm_ro_of (k := 5) hk rfl) rfl dX5_readOnce_135 fun h24 => ?_
        refine r_ltP fun P25 => ?_
        refine r_goto (tgt := 209) C dX5_readOnce_136 (by decide) ?_
        exact r_vret C dX5_readOnce_209 rfl
    · refine r_aload_n C dX5_readOnce_96 rfl rfl ?_
      refine r_getA C fl_X5_89 hk dX5_readOnce_97 ?_
      refine r_bipush (v := 101) C dX5_readOnce_100 rfl ?_
      refine r_aload_n C dX5_readOnce_102 rfl rfl ?_
      refine r_bipush (v := 68) C dX5_readOnce_103 rfl ?_
      refine r_bipush (v := 8) C dX5_readOnce_105 rfl ?_
      refine r_iconst (v := 1) C dX5_readOnce_107 rfl ?_
      refine r_bd fun r26 h27 => ?_
      refine r_callV (As := [.int (68 : Int32), .int (8 : Int32), .int (1 : Int32)]) (st := [.int (101 : Int32), .ref (th + 6)]) C (mc_X5_readRow hk h27) cv_X5_250 hk rfl (Nat.le_of_ble_eq_true rfl) (Nat.le_of_ble_eq_true rfl) rfl (Nat.le_of_ble_eq_true rfl) dX5_readOnce_108 ?_
      refine r_iast C (rg_650 hk) (mm_ro_of (k := 5) hk rfl) rfl dX5_readOnce_111 fun h28 => ?_
      refine r_ltP fun P29 => ?_
      refine r_goto (tgt := 209) C dX5_readOnce_112 (by decide) ?_
      exact r_vret C dX5_readOnce_209 rfl
  · exact r_vret C dX5_readOnce_69 rfl
def fX5_readOnce_b32 (th : Nat)  (s0 : Int32) (P : mm_P) : Option mm_P :=
  if 0 ≤ s0 then
  (if ((mm_shr (gI P 658 th) s0) &&& (1 : Int32)) ≠ (1 : Int32) then
  (fX5_readOnce_b62 th s0 P)
  else
  (mm_bd (fX5_wrong th (3 : Int32) P) fun r3 =>
  fX5_readOnce_b62 th s0 r3))
  else
  (mm_bd (fX5_wrong th (1 : Int32) P) fun r5 =>
  fX5_readOnce_b62 th s0 r5)
set_option maxHeartbeats 4000000 in
theorem wfX5_readOnce_b32 {E : mm_E} (C : mm_Cx E RX5 cX5_readOnce 2 none 51 1120) {K : mm_K} {th : Nat} (hk : K.1 th = 5) {nx sl : Nat} (s0 : Int32) (P : mm_P) : mm_V E (mm_wwV K nx sl) 32 [some (.ref th), none] [.int s0] K P nx sl (fX5_readOnce_b32 th s0 P) := by
  unfold fX5_readOnce_b32
  refine r_istore_n (ls' := [some (.ref th), some (.int s0)]) C dX5_readOnce_32 rfl (Nat.le_of_ble_eq_true rfl) rfl rfl ?_
  refine r_iload_n C dX5_readOnce_33 rfl rfl ?_
  refine r_ifge (tgt := 45) C dX5_readOnce_34 (by decide) (fun h1 => ?_) (fun h1 => ?_)
  · refine r_aload_n C dX5_readOnce_45 rfl rfl ?_
    refine r_getI (code := 658) C fl_X5_225 hk rfl dX5_readOnce_46 ?_
    refine r_iload_n C dX5_readOnce_49 rfl rfl ?_
    refine r_ishr C dX5_readOnce_50 ?_
    refine r_iconst (v := 1) C dX5_readOnce_51 rfl ?_
    refine r_iand C dX5_readOnce_52 ?_
    refine r_iconst (v := 1) C dX5_readOnce_53 rfl ?_
    refine r_icmpne (tgt := 62) C dX5_readOnce_54 (by decide) (fun h2 => ?_) (fun h2 => ?_)
    · exact wfX5_readOnce_b62 C hk s0 P
    · refine r_aload_n C dX5_readOnce_57 rfl rfl ?_
      refine r_iconst (v := 3) C dX5_readOnce_58 rfl ?_
      refine r_bd fun r3 h4 => ?_
      refine r_callVv (As := [.int (3 : Int32)]) (st := []) C (mc_X5_wrong hk h4) cv_X5_183 hk rfl (Nat.le_of_ble_eq_true rfl) (Nat.le_of_ble_eq_true rfl) rfl (Nat.le_of_ble_eq_true rfl) dX5_readOnce_59 ?_
      exact wfX5_readOnce_b62 C hk s0 r3
  · refine r_aload_n C dX5_readOnce_37 rfl rfl ?_
    refine r_iconst (v := 1) C dX5_readOnce_38 rfl ?_
    refine r_bd fun r5 h6 => ?_
    refine r_callVv (As := [.int (1 : Int32)]) (st := []) C (mc_X5_wrong hk h6) cv_X5_183 hk rfl (Nat.le_of_ble_eq_true rfl) (Nat.le_of_ble_eq_true rfl) rfl (Nat.le_of_ble_eq_true rfl) dX5_readOnce_39 ?_
    refine r_goto (tgt := 62) C dX5_readOnce_42 (by decide) ?_
    exact wfX5_readOnce_b62 C hk s0 r5
def fX5_readOnce (th : Nat)  (P : mm_P) : Option mm_P :=
  mm_bd (fX5_isWord th P (9 : Int32)) fun r1 =>
  if r1 = 0 then
  (mm_bd (fX5_isWord th P (10 : Int32)) fun r4 =>
  if r4 = 0 then
  (mm_bd (fX5_wordHere th P (4 : Int32) (4 : Int32)) fun r7 =>
  fX5_readOnce_b32 th r7 P)
  else
  (fX5_readOnce_b32 th (5 : Int32) P))
  else
  (fX5_readOnce_b32 th (4 : Int32) P)
set_option maxHeartbeats 4000000 in
theorem mc_X5_readOnce {l : Launch} {K : mm_K} {P : mm_P} {th : Nat}  {nx sl : Nat} {r : mm_P} (hk : K.1 th = 5) (h : fX5_readOnce th P = some r) : mm_C l yX5_readOnce (ws_ yX5_readOnce cX5_readOnce 2 none) 51 1120 [.ref th] K P nx sl (mm_wwV K nx sl r) :=
  mm_start (ls := [some (.ref th), none]) h (by decide) (Nat.le_of_ble_eq_true rfl) rfl (Nat.le_refl _) (Nat.le_refl _) rfl fun E hl9 _ _ _ C => by
  have C : mm_Cx E RX5 cX5_readOnce 2 none 51 1120 := C
  unfold fX5_readOnce
  refine r_aload_n C dX5_readOnce_0 rfl rfl ?_
  refine r_bipush (v := 9) C dX5_readOnce_1 rfl ?_
  refine r_bd fun r1 h2 => ?_
  refine r_callV (As := [.int (9 : Int32)]) (st := []) C (mc_X5_isWord hk h2) cv_X5_186 hk rfl (Nat.le_of_ble_eq_true rfl) (Nat.le_of_ble_eq_true rfl) rfl (Nat.le_of_ble_eq_true rfl) dX5_readOnce_3 ?_
  refine r_ifeq (tgt := 13) C dX5_readOnce_6 (by decide) (fun h3 => ?_) (fun h3 => ?_)
  · refine r_aload_n C dX5_readOnce_13 rfl rfl ?_
    refine r_bipush (v := 10) C dX5_readOnce_14 rfl ?_
    refine r_bd fun r4 h5 => ?_
    refine r_callV (As := [.int (10 : Int32)]) (st := []) C (mc_X5_isWord hk h5) cv_X5_186 hk rfl (Nat.le_of_ble_eq_true rfl) (Nat.le_of_ble_eq_true rfl) rfl (Nat.le_of_ble_eq_true rfl) dX5_readOnce_16 ?_
    refine r_ifeq (tgt := 26) C dX5_readOnce_19 (by decide) (fun h6 => ?_) (fun h6 => ?_)
    · refine r_aload_n C dX5_readOnce_26 rfl rfl ?_
      refine r_iconst (v := 4) C dX5_readOnce_27 rfl ?_
      refine r_iconst (v := 4) C dX5_readOnce_28 rfl ?_
      refine r_bd fun r7 h8 => ?_
      refine r_callV (As := [.int (4 : Int32), .int (4 : Int32)]) (st := []) C (mc_X5_wordHere hk h8) cv_X5_199 hk rfl (Nat.le_of_ble_eq_true rfl) (Nat.le_of_ble_eq_true rfl) rfl (Nat.le_of_ble_eq_true rfl) dX5_readOnce_29 ?_
      exact wfX5_readOnce_b32 C hk r7 P
    · refine r_iconst (v := 5) C dX5_readOnce_22 rfl ?_
      refine r_goto (tgt := 32) C dX5_readOnce_23 (by decide) ?_
      exact wfX5_readOnce_b32 C hk (5 : Int32) P
  · refine r_iconst (v := 4) C dX5_readOnce_9 rfl ?_
    refine r_goto (tgt := 32) C dX5_readOnce_10 (by decide) ?_
    exact wfX5_readOnce_b32 C hk (4 : Int32) P
/-! line -/
def fX5_line_b184 (th : Nat)  : Nat → Int32 → mm_P → Option (Int32 × mm_P)
  | 0, _, _ => none
  | n + 1, x1, P =>
  if (gI P 657 th) ≤ x1 then
  (mm_lt (sI P 656 th (gI P 657 th)) fun P2 =>
  mm_bd (fX5_begins th P2) fun r3 =>
  some ((0 : Int32), r3))
  else
  (mm_gd (mm_in x1 6) <|
  mm_gd (mm_in x1 6) <|
  mm_lt (sL P 654 th x1.toNatClampNeg (gL P 655 th x1.toNatClampNeg)) fun P7 =>
  fX5_line_b184 th n (x1 + (1 : Int32)) P7)
set_option maxHeartbeats 4000000 in
theorem wfX5_line_b184 {E : mm_E} (C : mm_Cx E RX5 cX5_line 2 (some .int) 52 1141) {K : mm_K} {th : Nat} (hk : K.1 th = 5) {nx sl : Nat} : ∀ (n : Nat), ∀ (x1 : Int32) (P : mm_P), mm_V E (mm_wwI K nx sl) 184 [some (.ref th), some (.int x1)] [] K P nx sl (fX5_line_b184 th n x1 P) := by
  intro n
  induction n with
  | zero => intro x1 P; exact r_none
  | succ n ih =>
    intro x1 P
    rw [fX5_line_b184]
    refine r_iload_n C dX5_line_184 rfl rfl ?_
    refine r_aload_n C dX5_line_185 rfl rfl ?_
    refine r_getI (code := 657) C fl_X5_202 hk rfl dX5_line_186 ?_
    refine r_icmpge (tgt := 210) C dX5_line_189 (by decide) (fun h1 => ?_) (fun h1 => ?_)
    · refine r_aload_n C dX5_line_210 rfl rfl ?_
      refine r_aload_n C dX5_line_211 rfl rfl ?_
      refine r_getI (code := 657) C fl_X5_202 hk rfl dX5_line_212 ?_
      refine r_putI (code := 656) C fl_X5_205 hk rfl rfl dX5_line_215 ?_
      refine r_ltP fun P2 => ?_
      refine r_aload_n C dX5_line_218 rfl rfl ?_
      refine r_bd fun r3 h4 => ?_
      refine r_callVv (As := []) (st := []) C (mc_X5_begins hk h4) cv_X5_148 hk rfl (Nat.le_of_ble_eq_true rfl) (Nat.le_of_ble_eq_true rfl) rfl (Nat.le_of_ble_eq_true rfl) dX5_line_219 ?_
      refine r_iconst (v := 0) C dX5_line_222 rfl ?_
      exact r_iret C dX5_line_223 rfl
    · refine r_aload_n C dX5_line_192 rfl rfl ?_
      refine r_getA C fl_X5_98 hk dX5_line_193 ?_
      refine r_iload_n C dX5_line_196 rfl rfl ?_
      refine r_aload_n C dX5_line_197 rfl rfl ?_
      refine r_getA C fl_X5_101 hk dX5_line_198 ?_
      refine r_iload_n C dX5_line_201 rfl rfl ?_
      refine r_lald C (rg_655 hk) rfl dX5_line_202 fun h5 => ?_
      refine r_last C (rg_654 hk) (mm_ro_of (k := 5) hk rfl) rfl dX5_line_203 fun h6 => ?_
      refine r_ltP fun P7 => ?_
      refine r_iinc (v := 1) (ls' := [some (.ref th), some (.int (x1 + (1 : Int32)))]) C dX5_line_204 rfl rfl (Nat.le_of_ble_eq_true rfl) rfl rfl ?_
      refine r_goto (tgt := 184) C dX5_line_207 (by decide) ?_
      exact ih (x1 + (1 : Int32)) P7
def fX5_line_b136 (th : Nat)  : Nat → Int32 → mm_P → Option (Int32 × mm_P)
  | 0, _, _ => none
  | n + 1, x1, P =>
  if (gI P 653 th) ≤ x1 then
  (fX5_line_b184 th mm_NF (0 : Int32) P)
  else
  (mm_gd (mm_in ((1100 : Int32) + x1) 2200) <|
  mm_gd (mm_in x1 2200) <|
  mm_lt (sA P 651 th x1.toNatClampNeg (gA P 651 th ((1100 : Int32) + x1).toNatClampNeg)) fun P4 =>
  mm_gd (mm_in ((1100 : Int32) + x1) 2200) <|
  mm_gd (mm_in x1 2200) <|
  mm_lt (sA P4 652 th x1.toNatClampNeg (gA P4 652 th ((1100 : Int32) + x1).toNatClampNeg)) fun P7 =>
  fX5_line_b136 th n (x1 + (1 : Int32)) P7)
set_option maxHeartbeats 4000000 in
theorem wfX5_line_b136 {E : mm_E} (C : mm_Cx E RX5 cX5_line 2 (some .int) 52 1141) {K : mm_K} {th : Nat} (hk : K.1 th = 5) {nx sl : Nat} : ∀ (n : Nat), ∀ (x1 : Int32) (P : mm_P), mm_V E (mm_wwI K nx sl) 136 [some (.ref th), some (.int x1)] [] K P nx sl (fX5_line_b136 th n x1 P) := by
  intro n
  induction n with
  | zero => intro x1 P; exact r_none
  | succ n ih =>
    intro x1 P
    rw [fX5_line_b136]
    refine r_iload_n C dX5_line_136 rfl rfl ?_
    refine r_aload_n C dX5_line_137 rfl rfl ?_
    refine r_getI (code := 653) C fl_X5_222 hk rfl dX5_line_138 ?_
    refine r_icmpge (tgt := 182) C dX5_line_141 (by decide) (fun h1 => ?_) (fun h1 => ?_)
    · refine r_iconst (v := 0) C dX5_line_182 rfl ?_
      refine r_istore_n (ls' := [some (.ref th), some (.int (0 : Int32))]) C dX5_line_183 rfl (Nat.le_of_ble_eq_true rfl) rfl rfl ?_
      exact wfX5_line_b184 C hk mm_NF (0 : Int32) P
    · refine r_aload_n C dX5_line_144 rfl rfl ?_
      refine r_getA C fl_X5_92 hk dX5_line_145 ?_
      refine r_iload_n C dX5_line_148 rfl rfl ?_
      refine r_aload_n C dX5_line_149 rfl rfl ?_
      refine r_getA C fl_X5_92 hk dX5_line_150 ?_
      refine r_sipush (v := 1100) C dX5_line_153 rfl ?_
      refine r_iload_n C dX5_line_156 rfl rfl ?_
      refine r_iadd C dX5_line_157 ?_
      refine r_iald C (rg_651 hk) rfl dX5_line_158 fun h2 => ?_
      refine r_iast C (rg_651 hk) (mm_ro_of (k := 5) hk rfl) rfl dX5_line_159 fun h3 => ?_
      refine r_ltP fun P4 => ?_
      refine r_aload_n C dX5_line_160 rfl rfl ?_
      refine r_getA C fl_X5_95 hk dX5_line_161 ?_
      refine r_iload_n C dX5_line_164 rfl rfl ?_
      refine r_aload_n C dX5_line_165 rfl rfl ?_
      refine r_getA C fl_X5_95 hk dX5_line_166 ?_
      refine r_sipush (v := 1100) C dX5_line_169 rfl ?_
      refine r_iload_n C dX5_line_172 rfl rfl ?_
      refine r_iadd C dX5_line_173 ?_
      refine r_iald C (rg_652 hk) rfl dX5_line_174 fun h5 => ?_
      refine r_iast C (rg_652 hk) (mm_ro_of (k := 5) hk rfl) rfl dX5_line_175 fun h6 => ?_
      refine r_ltP fun P7 => ?_
      refine r_iinc (v := 1) (ls' := [some (.ref th), some (.int (x1 + (1 : Int32)))]) C dX5_line_176 rfl rfl (Nat.le_of_ble_eq_true rfl) rfl rfl ?_
      refine r_goto (tgt := 136) C dX5_line_179 (by decide) ?_
      exact ih (x1 + (1 : Int32)) P7
def fX5_line_b107 (th : Nat)  : Nat → Int32 → mm_P → Option (Int32 × mm_P)
  | 0, _, _ => none
  | n + 1, x1, P =>
  if (100 : Int32) ≤ x1 then
  (fX5_line_b136 th mm_NF (0 : Int32) P)
  else
  (mm_gd (mm_in ((100 : Int32) + x1) 200) <|
  mm_gd (mm_in x1 200) <|
  mm_lt (sA P 650 th x1.toNatClampNeg (gA P 650 th ((100 : Int32) + x1).toNatClampNeg)) fun P4 =>
  fX5_line_b107 th n (x1 + (1 : Int32)) P4)
set_option maxHeartbeats 4000000 in
theorem wfX5_line_b107 {E : mm_E} (C : mm_Cx E RX5 cX5_line 2 (some .int) 52 1141) {K : mm_K} {th : Nat} (hk : K.1 th = 5) {nx sl : Nat} : ∀ (n : Nat), ∀ (x1 : Int32) (P : mm_P), mm_V E (mm_wwI K nx sl) 107 [some (.ref th), some (.int x1)] [] K P nx sl (fX5_line_b107 th n x1 P) := by
  intro n
  induction n with
  | zero => intro x1 P; exact r_none
  | succ n ih =>
    intro x1 P
    rw [fX5_line_b107]
    refine r_iload_n C dX5_line_107 rfl rfl ?_
    refine r_bipush (v := 100) C dX5_line_108 rfl ?_
    refine r_icmpge (tgt := 134) C dX5_line_110 (by decide) (fun h1 => ?_) (fun h1 => ?_)
    · refine r_iconst (v := 0) C dX5_line_134 rfl ?_
      refine r_istore_n (ls' := [some (.ref th), some (.int (0 : Int32))]) C dX5_line_135 rfl (Nat.le_of_ble_eq_true rfl) rfl rfl ?_
      exact wfX5_line_b136 C hk mm_NF (0 : Int32) P
    · refine r_aload_n C dX5_line_113 rfl rfl ?_
      refine r_getA C fl_X5_89 hk dX5_line_114 ?_
      refine r_iload_n C dX5_line_117 rfl rfl ?_
      refine r_aload_n C dX5_line_118 rfl rfl ?_
      refine r_getA C fl_X5_89 hk dX5_line_119 ?_
      refine r_bipush (v := 100) C dX5_line_122 rfl ?_
      refine r_iload_n C dX5_line_124 rfl rfl ?_
      refine r_iadd C dX5_line_125 ?_
      refine r_iald C (rg_650 hk) rfl dX5_line_126 fun h2 => ?_
      refine r_iast C (rg_650 hk) (mm_ro_of (k := 5) hk rfl) rfl dX5_line_127 fun h3 => ?_
      refine r_ltP fun P4 => ?_
      refine r_iinc (v := 1) (ls' := [some (.ref th), some (.int (x1 + (1 : Int32)))]) C dX5_line_128 rfl rfl (Nat.le_of_ble_eq_true rfl) rfl rfl ?_
      refine r_goto (tgt := 107) C dX5_line_131 (by decide) ?_
      exact ih (x1 + (1 : Int32)) P4
def fX5_line_b93 (th : Nat)  (P : mm_P) : Option (Int32 × mm_P) :=
  if (gI P 648 th) ≤ 0 then
  (fX5_line_b107 th mm_NF (0 : Int32) P)
  else
  (some (gI P 648 th, P))
set_option maxHeartbeats 4000000 in
theorem wfX5_line_b93 {E : mm_E} (C : mm_Cx E RX5 cX5_line 2 (some .int) 52 1141) {K : mm_K} {th : Nat} (hk : K.1 th = 5) {nx sl : Nat} (P : mm_P) : mm_V E (mm_wwI K nx sl) 93 [some (.ref th), none] [] K P nx sl (fX5_line_b93 th P) := by
  unfold fX5_line_b93
  refine r_aload_n C dX5_line_93 rfl rfl ?_
  refine r_getI (code := 648) C fl_X5_177 hk rfl dX5_line_94 ?_
  refine r_ifle (tgt := 105) C dX5_line_97 (by decide) (fun h1 => ?_) (fun h1 => ?_)
  · refine r_iconst (v := 0) C dX5_line_105 rfl ?_
    refine r_istore_n (ls' := [some (.ref th), some (.int (0 : Int32))]) C dX5_line_106 rfl (Nat.le_of_ble_eq_true rfl) rfl rfl ?_
    exact wfX5_line_b107 C hk mm_NF (0 : Int32) P
  · refine r_aload_n C dX5_line_100 rfl rfl ?_
    refine r_getI (code := 648) C fl_X5_177 hk rfl dX5_line_101 ?_
    exact r_iret C dX5_line_104 rfl
def fX5_line_b84 (th : Nat) (k30 : mm_P → Option (Int32 × mm_P)) (P : mm_P) : Option (Int32 × mm_P) :=
  mm_bd (fX5_takeSign th (59 : Int32) P) fun r1 =>
  k30 r1
set_option maxHeartbeats 4000000 in
theorem wfX5_line_b84 {E : mm_E} (C : mm_Cx E RX5 cX5_line 2 (some .int) 52 1141) {K : mm_K} {th : Nat} (hk : K.1 th = 5) {nx sl : Nat} {k30 : mm_P → Option (Int32 × mm_P)} (hk30 : ∀ (P : mm_P), mm_V E (mm_wwI K nx sl) 30 [some (.ref th), none] [] K P nx sl (k30 P)) (P : mm_P) : mm_V E (mm_wwI K nx sl) 84 [some (.ref th), none] [] K P nx sl (fX5_line_b84 th k30 P) := by
  unfold fX5_line_b84
  refine r_aload_n C dX5_line_84 rfl rfl ?_
  refine r_bipush (v := 59) C dX5_line_85 rfl ?_
  refine r_bd fun r1 h2 => ?_
  refine r_callVv (As := [.int (59 : Int32)]) (st := []) C (mc_X5_takeSign hk h2) cv_X5_237 hk rfl (Nat.le_of_ble_eq_true rfl) (Nat.le_of_ble_eq_true rfl) rfl (Nat.le_of_ble_eq_true rfl) dX5_line_87 ?_
  refine r_goto (tgt := 30) C dX5_line_90 (by decide) ?_
  exact hk30 r1
def fX5_line_b30 (th : Nat)  : Nat → mm_P → Option (Int32 × mm_P)
  | 0, _ => none
  | n + 1, P =>
  if (gI P 648 th) ≠ 0 then
  (fX5_line_b93 th P)
  else
  (mm_gd (mm_in (gI P 647 th) 1002) <|
  if (gA P 644 th (gI P 647 th).toNatClampNeg) = 0 then
  (fX5_line_b93 th P)
  else
  (mm_bd (fX5_isWord th P (0 : Int32)) fun r4 =>
  if r4 = 0 then
  (mm_bd (fX5_isWord th P (8 : Int32)) fun r7 =>
  if r7 = 0 then
  (mm_bd (fX5_readOnce th P) fun r10 =>
  fX5_line_b84 th (fX5_line_b30 th n) r10)
  else
  (mm_bd (fX5_readClash th P) fun r12 =>
  fX5_line_b84 th (fX5_line_b30 th n) r12))
  else
  (mm_bd (fX5_readCloth th P) fun r14 =>
  fX5_line_b84 th (fX5_line_b30 th n) r14)))
set_option maxHeartbeats 4000000 in
theorem wfX5_line_b30 {E : mm_E} (C : mm_Cx E RX5 cX5_line 2 (some .int) 52 1141) {K : mm_K} {th : Nat} (hk : K.1 th = 5) {nx sl : Nat} : ∀ (n : Nat), ∀ (P : mm_P), mm_V E (mm_wwI K nx sl) 30 [some (.ref th), none] [] K P nx sl (fX5_line_b30 th n P) := by
  intro n
  induction n with
  | zero => intro P; exact r_none
  | succ n ih =>
    intro P
    rw [fX5_line_b30]
    refine r_aload_n C dX5_line_30 rfl rfl ?_
    refine r_getI (code := 648) C fl_X5_177 hk rfl dX5_line_31 ?_
    refine r_ifne (tgt := 93) C dX5_line_34 (by decide) (fun h1 => ?_) (fun h1 => ?_)
    · exact wfX5_line_b93 C hk P
    · refine r_aload_n C dX5_line_37 rfl rfl ?_
      refine r_getA C fl_X5_24 hk dX5_line_38 ?_
      refine r_aload_n C dX5_line_41 rfl rfl ?_
      refine r_getI (code := 647) C fl_X5_174 hk rfl dX5_line_42 ?_
      refine r_iald C (rg_644 hk) rfl dX5_line_45 fun h2 => ?_
      refine r_ifeq (tgt := 93) C dX5_line_46 (by decide) (fun h3 => ?_) (fun h3 => ?_)
      · exact wfX5_line_b93 C hk P
      · refine r_aload_n C dX5_line_49 rfl rfl ?_
        refine r_iconst (v := 0) C dX5_line_50 rfl ?_
        refine r_bd fun r4 h5 => ?_
        refine r_callV (As := [.int (0 : Int32)]) (st := []) C (mc_X5_isWord hk h5) cv_X5_186 hk rfl (Nat.le_of_ble_eq_true rfl) (Nat.le_of_ble_eq_true rfl) rfl (Nat.le_of_ble_eq_true rfl) dX5_line_51 ?_
        refine r_ifeq (tgt := 64) C dX5_line_54 (by decide) (fun h6 => ?_) (fun h6 => ?_)
        · refine r_aload_n C dX5_line_64 rfl rfl ?_
          refine r_bipush (v := 8) C dX5_line_65 rfl ?_
          refine r_bd fun r7 h8 => ?_
          refine r_callV (As := [.int (8 : Int32)]) (st := []) C (mc_X5_isWord hk h8) cv_X5_186 hk rfl (Nat.le_of_ble_eq_true rfl) (Nat.le_of_ble_eq_true rfl) rfl (Nat.le_of_ble_eq_true rfl) dX5_line_67 ?_
          refine r_ifeq (tgt := 80) C dX5_line_70 (by decide) (fun h9 => ?_) (fun h9 => ?_)
          · refine r_aload_n C dX5_line_80 rfl rfl ?_
            refine r_bd fun r10 h11 => ?_
            refine r_callVv (As := []) (st := []) C (mc_X5_readOnce hk h11) cv_X5_234 hk rfl (Nat.le_of_ble_eq_true rfl) (Nat.le_of_ble_eq_true rfl) rfl (Nat.le_of_ble_eq_true rfl) dX5_line_81 ?_
            exact wfX5_line_b84 C hk ih r10
          · refine r_aload_n C dX5_line_73 rfl rfl ?_
            refine r_bd fun r12 h13 => ?_
            refine r_callVv (As := []) (st := []) C (mc_X5_readClash hk h13) cv_X5_231 hk rfl (Nat.le_of_ble_eq_true rfl) (Nat.le_of_ble_eq_true rfl) rfl (Nat.le_of_ble_eq_true rfl) dX5_line_74 ?_
            refine r_goto (tgt := 84) C dX5_line_77 (by decide) ?_
            exact wfX5_line_b84 C hk ih r12
        · refine r_aload_n C dX5_line_57 rfl rfl ?_
          refine r_bd fun r14 h15 => ?_
          refine r_callVv (As := []) (st := []) C (mc_X5_readCloth hk h15) cv_X5_228 hk rfl (Nat.le_of_ble_eq_true rfl) (Nat.le_of_ble_eq_true rfl) rfl (Nat.le_of_ble_eq_true rfl) dX5_line_58 ?_
          refine r_goto (tgt := 84) C dX5_line_61 (by decide) ?_
          exact wfX5_line_b84 C hk ih r14
def fX5_line (th : Nat)  (P : mm_P) : Option (Int32 × mm_P) :=
  mm_lt (sI P 640 th (0 : Int32)) fun P1 =>
  mm_bd (fX5_cutAll th P1) fun r2 =>
  mm_lt (sI r2 653 th (0 : Int32)) fun P4 =>
  mm_lt (sI P4 657 th (0 : Int32)) fun P5 =>
  mm_lt (sI P5 658 th (0 : Int32)) fun P6 =>
  mm_bd (fX5_standsAsAlways th (100 : Int32) P6) fun r7 =>
  fX5_line_b30 th mm_NF r7
set_option maxHeartbeats 4000000 in
theorem mc_X5_line {l : Launch} {K : mm_K} {P : mm_P} {th : Nat}  {nx sl : Nat} {r : (Int32 × mm_P)} (hk : K.1 th = 5) (h : fX5_line th P = some r) : mm_C l yX5_line (ws_ yX5_line cX5_line 2 (some .int)) 52 1141 [.ref th] K P nx sl (mm_wwI K nx sl r) :=
  mm_start (ls := [some (.ref th), none]) h (by decide) (Nat.le_of_ble_eq_true rfl) rfl (Nat.le_refl _) (Nat.le_refl _) rfl fun E hl9 _ _ _ C => by
  have C : mm_Cx E RX5 cX5_line 2 (some .int) 52 1141 := C
  unfold fX5_line
  refine r_aload_n C dX5_line_0 rfl rfl ?_
  refine r_iconst (v := 0) C dX5_line_1 rfl ?_
  refine r_putI (code := 640) C fl_X5_1 hk rfl rfl dX5_line_2 ?_
  refine r_ltP fun P1 => ?_
  refine r_aload_n C dX5_line_5 rfl rfl ?_
  refine r_bd fun r2 h3 => ?_
  refine r_callVv (As := []) (st := []) C (mc_X5_cutAll hk h3) cv_X5_219 hk rfl (Nat.le_of_ble_eq_true rfl) (Nat.le_of_ble_eq_true rfl) rfl (Nat.le_of_ble_eq_true rfl) dX5_line_6 ?_
  refine r_aload_n C dX5_line_9 rfl rfl ?_
  refine r_iconst (v := 0) C dX5_line_10 rfl ?_
  refine r_putI (code := 653) C fl_X5_222 hk rfl rfl dX5_line_11 ?_
  refine r_ltP fun P4 => ?_
  refine r_aload_n C dX5_line_14 rfl rfl ?_
  refine r_iconst (v := 0) C dX5_line_15 rfl ?_
  refine r_putI (code := 657) C fl_X5_202 hk rfl rfl dX5_line_16 ?_
  refine r_ltP fun P5 => ?_
  refine r_aload_n C dX5_line_19 rfl rfl ?_
  refine r_iconst (v := 0) C dX5_line_20 rfl ?_
  refine r_putI (code := 658) C fl_X5_225 hk rfl rfl dX5_line_21 ?_
  refine r_ltP fun P6 => ?_
  refine r_aload_n C dX5_line_24 rfl rfl ?_
  refine r_bipush (v := 100) C dX5_line_25 rfl ?_
  refine r_bd fun r7 h8 => ?_
  refine r_callVv (As := [.int (100 : Int32)]) (st := []) C (mc_X5_standsAsAlways hk h8) cv_X5_144 hk rfl (Nat.le_of_ble_eq_true rfl) (Nat.le_of_ble_eq_true rfl) rfl (Nat.le_of_ble_eq_true rfl) dX5_line_27 ?_
  exact wfX5_line_b30 C hk mm_NF r7
/-! readPegs -/
def fX5_readPegs_b89 (th : Nat) (k4 : Int32 → Int32 → mm_P → Option (Int32 × mm_P)) (x1 : Int32) (x2 : Int32) (x3 : Int32) (P : mm_P) : Option (Int32 × mm_P) :=
  mm_lt (x1 ||| (mm_shl (1 : Int32) x3)) fun v1 =>
  k4 v1 (x2 + (1 : Int32)) P
set_option maxHeartbeats 4000000 in
theorem wfX5_readPegs_b89 {E : mm_E} (C : mm_Cx E RX5 cX5_readPegs 5 (some .int) 2 43) {K : mm_K} {th : Nat} (hk : K.1 th = 5) {nx sl : Nat} {k4 : Int32 → Int32 → mm_P → Option (Int32 × mm_P)} (hk4 : ∀ (x1 : Int32) (x2 : Int32) (P : mm_P), mm_V E (mm_wwI K nx sl) 4 [some (.ref th), some (.int x1), some (.int x2), none, none] [] K P nx sl (k4 x1 x2 P)) (x1 : Int32) (x2 : Int32) (x3 : Int32) (P : mm_P) : mm_V E (mm_wwI K nx sl) 89 [some (.ref th), some (.int x1), some (.int x2), some (.int x3), none] [] K P nx sl (fX5_readPegs_b89 th k4 x1 x2 x3 P) := by
  unfold fX5_readPegs_b89
  refine r_iload_n C dX5_readPegs_89 rfl rfl ?_
  refine r_iconst (v := 1) C dX5_readPegs_90 rfl ?_
  refine r_iload_n C dX5_readPegs_91 rfl rfl ?_
  refine r_ishl C dX5_readPegs_92 ?_
  refine r_ior C dX5_readPegs_93 ?_
  refine r_ltI fun v1 => ?_
  refine r_istore_n (ls' := [some (.ref th), some (.int v1), some (.int x2), some (.int x3), none]) C dX5_readPegs_94 rfl (Nat.le_of_ble_eq_true rfl) rfl rfl ?_
  refine r_iinc (v := 1) (ls' := [some (.ref th), some (.int v1), some (.int (x2 + (1 : Int32))), some (.int x3), none]) C dX5_readPegs_95 rfl rfl (Nat.le_of_ble_eq_true rfl) rfl rfl ?_
  refine r_goto (tgt := 4) C dX5_readPegs_98 (by decide) ?_
  refine r_mask [true, true, true, false, true] (ls' := [some (.ref th), some (.int v1), some (.int (x2 + (1 : Int32))), none, none]) rfl ?_
  exact hk4 v1 (x2 + (1 : Int32)) P
def fX5_readPegs_b59 (th : Nat) (k4 : Int32 → Int32 → mm_P → Option (Int32 × mm_P)) (x1 : Int32) (x2 : Int32) (x3 : Int32) (s0 : Int32) (P : mm_P) : Option (Int32 × mm_P) :=
  if (gI P 648 th) ≠ 0 then
  (fX5_readPegs_b89 th k4 x1 x2 x3 P)
  else
  (if s0 ≤ 0 then
  (fX5_readPegs_b89 th k4 x1 x2 x3 P)
  else
  (mm_lt (sI P 647 th ((gI P 647 th) - (1 : Int32))) fun P3 =>
  mm_bd (fX5_wrong th s0 P3) fun r4 =>
  fX5_readPegs_b89 th k4 x1 x2 x3 r4))
set_option maxHeartbeats 4000000 in
theorem wfX5_readPegs_b59 {E : mm_E} (C : mm_Cx E RX5 cX5_readPegs 5 (some .int) 2 43) {K : mm_K} {th : Nat} (hk : K.1 th = 5) {nx sl : Nat} {k4 : Int32 → Int32 → mm_P → Option (Int32 × mm_P)} (hk4 : ∀ (x1 : Int32) (x2 : Int32) (P : mm_P), mm_V E (mm_wwI K nx sl) 4 [some (.ref th), some (.int x1), some (.int x2), none, none] [] K P nx sl (k4 x1 x2 P)) (x1 : Int32) (x2 : Int32) (x3 : Int32) (s0 : Int32) (P : mm_P) : mm_V E (mm_wwI K nx sl) 59 [some (.ref th), some (.int x1), some (.int x2), some (.int x3), none] [.int s0] K P nx sl (fX5_readPegs_b59 th k4 x1 x2 x3 s0 P) := by
  unfold fX5_readPegs_b59
  refine r_istore (ls' := [some (.ref th), some (.int x1), some (.int x2), some (.int x3), some (.int s0)]) C dX5_readPegs_59 (Nat.le_of_ble_eq_true rfl) rfl rfl ?_
  refine r_aload_n C dX5_readPegs_61 rfl rfl ?_
  refine r_getI (code := 648) C fl_X5_177 hk rfl dX5_readPegs_62 ?_
  refine r_ifne (tgt := 89) C dX5_readPegs_65 (by decide) (fun h1 => ?_) (fun h1 => ?_)
  · refine r_mask [true, true, true, true, false] (ls' := [some (.ref th), some (.int x1), some (.int x2), some (.int x3), none]) rfl ?_
    exact wfX5_readPegs_b89 C hk hk4 x1 x2 x3 P
  · refine r_iload C dX5_readPegs_68 rfl ?_
    refine r_ifle (tgt := 89) C dX5_readPegs_70 (by decide) (fun h2 => ?_) (fun h2 => ?_)
    · refine r_mask [true, true, true, true, false] (ls' := [some (.ref th), some (.int x1), some (.int x2), some (.int x3), none]) rfl ?_
      exact wfX5_readPegs_b89 C hk hk4 x1 x2 x3 P
    · refine r_aload_n C dX5_readPegs_73 rfl rfl ?_
      refine r_dup C dX5_readPegs_74 rfl ?_
      refine r_getI (code := 647) C fl_X5_174 hk rfl dX5_readPegs_75 ?_
      refine r_iconst (v := 1) C dX5_readPegs_78 rfl ?_
      refine r_isub C dX5_readPegs_79 ?_
      refine r_putI (code := 647) C fl_X5_174 hk rfl rfl dX5_readPegs_80 ?_
      refine r_ltP fun P3 => ?_
      refine r_aload_n C dX5_readPegs_83 rfl rfl ?_
      refine r_iload C dX5_readPegs_84 rfl ?_
      refine r_bd fun r4 h5 => ?_
      refine r_callVv (As := [.int s0]) (st := []) C (mc_X5_wrong hk h5) cv_X5_183 hk rfl (Nat.le_of_ble_eq_true rfl) (Nat.le_of_ble_eq_true rfl) rfl (Nat.le_of_ble_eq_true rfl) dX5_readPegs_86 ?_
      refine r_mask [true, true, true, true, false] (ls' := [some (.ref th), some (.int x1), some (.int x2), some (.int x3), none]) rfl ?_
      exact wfX5_readPegs_b89 C hk hk4 x1 x2 x3 r4
def fX5_readPegs_b28 (th : Nat) (k4 : Int32 → Int32 → mm_P → Option (Int32 × mm_P)) (x1 : Int32) (x2 : Int32) (P : mm_P) : Option (Int32 × mm_P) :=
  mm_bd (fX5_takeNumber th (0 : Int32) (7 : Int32) P) fun r1 =>
  if ((mm_shr x1 r1.1) &&& (1 : Int32)) ≠ (1 : Int32) then
  (if x2 ≠ (4 : Int32) then
  (fX5_readPegs_b59 th k4 x1 x2 r1.1 (0 : Int32) r1.2)
  else
  (fX5_readPegs_b59 th k4 x1 x2 r1.1 (5 : Int32) r1.2))
  else
  (fX5_readPegs_b59 th k4 x1 x2 r1.1 (3 : Int32) r1.2)
set_option maxHeartbeats 4000000 in
theorem wfX5_readPegs_b28 {E : mm_E} (C : mm_Cx E RX5 cX5_readPegs 5 (some .int) 2 43) {K : mm_K} {th : Nat} (hk : K.1 th = 5) {nx sl : Nat} {k4 : Int32 → Int32 → mm_P → Option (Int32 × mm_P)} (hk4 : ∀ (x1 : Int32) (x2 : Int32) (P : mm_P), mm_V E (mm_wwI K nx sl) 4 [some (.ref th), some (.int x1), some (.int x2), none, none] [] K P nx sl (k4 x1 x2 P)) (x1 : Int32) (x2 : Int32) (P : mm_P) : mm_V E (mm_wwI K nx sl) 28 [some (.ref th), some (.int x1), some (.int x2), none, none] [] K P nx sl (fX5_readPegs_b28 th k4 x1 x2 P) := by
  unfold fX5_readPegs_b28
  refine r_aload_n C dX5_readPegs_28 rfl rfl ?_
  refine r_iconst (v := 0) C dX5_readPegs_29 rfl ?_
  refine r_bipush (v := 7) C dX5_readPegs_30 rfl ?_
  refine r_bd fun r1 h2 => ?_
  refine r_callV (As := [.int (0 : Int32), .int (7 : Int32)]) (st := []) C (mc_X5_takeNumber hk h2) cv_X5_195 hk rfl (Nat.le_of_ble_eq_true rfl) (Nat.le_of_ble_eq_true rfl) rfl (Nat.le_of_ble_eq_true rfl) dX5_readPegs_32 ?_
  refine r_istore_n (ls' := [some (.ref th), some (.int x1), some (.int x2), some (.int r1.1), none]) C dX5_readPegs_35 rfl (Nat.le_of_ble_eq_true rfl) rfl rfl ?_
  refine r_iload_n C dX5_readPegs_36 rfl rfl ?_
  refine r_iload_n C dX5_readPegs_37 rfl rfl ?_
  refine r_ishr C dX5_readPegs_38 ?_
  refine r_iconst (v := 1) C dX5_readPegs_39 rfl ?_
  refine r_iand C dX5_readPegs_40 ?_
  refine r_iconst (v := 1) C dX5_readPegs_41 rfl ?_
  refine r_icmpne (tgt := 49) C dX5_readPegs_42 (by decide) (fun h3 => ?_) (fun h3 => ?_)
  · refine r_iload_n C dX5_readPegs_49 rfl rfl ?_
    refine r_iconst (v := 4) C dX5_readPegs_50 rfl ?_
    refine r_icmpne (tgt := 58) C dX5_readPegs_51 (by decide) (fun h4 => ?_) (fun h4 => ?_)
    · refine r_iconst (v := 0) C dX5_readPegs_58 rfl ?_
      exact wfX5_readPegs_b59 C hk hk4 x1 x2 r1.1 (0 : Int32) r1.2
    · refine r_iconst (v := 5) C dX5_readPegs_54 rfl ?_
      refine r_goto (tgt := 59) C dX5_readPegs_55 (by decide) ?_
      exact wfX5_readPegs_b59 C hk hk4 x1 x2 r1.1 (5 : Int32) r1.2
  · refine r_iconst (v := 3) C dX5_readPegs_45 rfl ?_
    refine r_goto (tgt := 59) C dX5_readPegs_46 (by decide) ?_
    exact wfX5_readPegs_b59 C hk hk4 x1 x2 r1.1 (3 : Int32) r1.2
def fX5_readPegs_b4 (th : Nat)  : Nat → Int32 → Int32 → mm_P → Option (Int32 × mm_P)
  | 0, _, _, _ => none
  | n + 1, x1, x2, P =>
  if (gI P 648 th) ≠ 0 then
  (some (x1, P))
  else
  (if x2 = 0 then
  (fX5_readPegs_b28 th (fX5_readPegs_b4 th n) x1 x2 P)
  else
  (mm_gd (mm_in (gI P 647 th) 1002) <|
  if (gA P 644 th (gI P 647 th).toNatClampNeg) ≠ (2 : Int32) then
  (some (x1, P))
  else
  (fX5_readPegs_b28 th (fX5_readPegs_b4 th n) x1 x2 P)))
set_option maxHeartbeats 4000000 in
theorem wfX5_readPegs_b4 {E : mm_E} (C : mm_Cx E RX5 cX5_readPegs 5 (some .int) 2 43) {K : mm_K} {th : Nat} (hk : K.1 th = 5) {nx sl : Nat} : ∀ (n : Nat), ∀ (x1 : Int32) (x2 : Int32) (P : mm_P), mm_V E (mm_wwI K nx sl) 4 [some (.ref th), some (.int x1), some (.int x2), none, none] [] K P nx sl (fX5_readPegs_b4 th n x1 x2 P) := by
  intro n
  induction n with
  | zero => intro x1 x2 P; exact r_none
  | succ n ih =>
    intro x1 x2 P
    rw [fX5_readPegs_b4]
    refine r_aload_n C dX5_readPegs_4 rfl rfl ?_
    refine r_getI (code := 648) C fl_X5_177 hk rfl dX5_readPegs_5 ?_
    refine r_ifne (tgt := 101) C dX5_readPegs_8 (by decide) (fun h1 => ?_) (fun h1 => ?_)
    · refine r_iload_n C dX5_readPegs_101 rfl rfl ?_
      exact r_iret C dX5_readPegs_102 rfl
    · refine r_iload_n C dX5_readPegs_11 rfl rfl ?_
      refine r_ifeq (tgt := 28) C dX5_readPegs_12 (by decide) (fun h2 => ?_) (fun h2 => ?_)
      · exact wfX5_readPegs_b28 C hk ih x1 x2 P
      · refine r_aload_n C dX5_readPegs_15 rfl rfl ?_
        refine r_getA C fl_X5_24 hk dX5_readPegs_16 ?_
        refine r_aload_n C dX5_readPegs_19 rfl rfl ?_
        refine r_getI (code := 647) C fl_X5_174 hk rfl dX5_readPegs_20 ?_
        refine r_iald C (rg_644 hk) rfl dX5_readPegs_23 fun h3 => ?_
        refine r_iconst (v := 2) C dX5_readPegs_24 rfl ?_
        refine r_icmpne (tgt := 101) C dX5_readPegs_25 (by decide) (fun h4 => ?_) (fun h4 => ?_)
        · refine r_iload_n C dX5_readPegs_101 rfl rfl ?_
          exact r_iret C dX5_readPegs_102 rfl
        · exact wfX5_readPegs_b28 C hk ih x1 x2 P
def fX5_readPegs (th : Nat)  (P : mm_P) : Option (Int32 × mm_P) :=
  fX5_readPegs_b4 th mm_NF (0 : Int32) (0 : Int32) P
set_option maxHeartbeats 4000000 in
theorem mc_X5_readPegs {l : Launch} {K : mm_K} {P : mm_P} {th : Nat}  {nx sl : Nat} {r : (Int32 × mm_P)} (hk : K.1 th = 5) (h : fX5_readPegs th P = some r) : mm_C l yX5_readPegs (ws_ yX5_readPegs cX5_readPegs 5 (some .int)) 2 43 [.ref th] K P nx sl (mm_wwI K nx sl r) :=
  mm_start (ls := [some (.ref th), none, none, none, none]) h (by decide) (Nat.le_of_ble_eq_true rfl) rfl (Nat.le_refl _) (Nat.le_refl _) rfl fun E hl9 _ _ _ C => by
  have C : mm_Cx E RX5 cX5_readPegs 5 (some .int) 2 43 := C
  unfold fX5_readPegs
  refine r_iconst (v := 0) C dX5_readPegs_0 rfl ?_
  refine r_istore_n (ls' := [some (.ref th), some (.int (0 : Int32)), none, none, none]) C dX5_readPegs_1 rfl (Nat.le_of_ble_eq_true rfl) rfl rfl ?_
  refine r_iconst (v := 0) C dX5_readPegs_2 rfl ?_
  refine r_istore_n (ls' := [some (.ref th), some (.int (0 : Int32)), some (.int (0 : Int32)), none, none]) C dX5_readPegs_3 rfl (Nat.le_of_ble_eq_true rfl) rfl rfl ?_
  exact wfX5_readPegs_b4 C hk mm_NF (0 : Int32) (0 : Int32) P
/-! day -/
def fX5_day_b182 (th : Nat)  : Nat → Int32 → Int32 → mm_P → Option (Int32 × mm_P)
  | 0, _, _, _ => none
  | n + 1, x1, x2, P =>
  if ((3 : Int32) * x1) ≤ x2 then
  (some ((0 : Int32), P))
  else
  (mm_gd (mm_in ((100 : Int32) + x2) 200) <|
  mm_gd (mm_in ((1 : Int32) + x2) 200) <|
  mm_lt (sA P 659 th ((1 : Int32) + x2).toNatClampNeg (gA P 659 th ((100 : Int32) + x2).toNatClampNeg)) fun P4 =>
  fX5_day_b182 th n x1 (x2 + (1 : Int32)) P4)
set_option maxHeartbeats 4000000 in
theorem wfX5_day_b182 {E : mm_E} (C : mm_Cx E RX5 cX5_day 3 (some .int) 5 109) {K : mm_K} {th : Nat} (hk : K.1 th = 5) {nx sl : Nat} : ∀ (n : Nat), ∀ (x1 : Int32) (x2 : Int32) (P : mm_P), mm_V E (mm_wwI K nx sl) 182 [some (.ref th), some (.int x1), some (.int x2)] [] K P nx sl (fX5_day_b182 th n x1 x2 P) := by
  intro n
  induction n with
  | zero => intro x1 x2 P; exact r_none
  | succ n ih =>
    intro x1 x2 P
    rw [fX5_day_b182]
    refine r_iload_n C dX5_day_182 rfl rfl ?_
    refine r_iconst (v := 3) C dX5_day_183 rfl ?_
    refine r_iload_n C dX5_day_184 rfl rfl ?_
    refine r_imul C dX5_day_185 ?_
    refine r_icmpge (tgt := 212) C dX5_day_186 (by decide) (fun h1 => ?_) (fun h1 => ?_)
    · refine r_iconst (v := 0) C dX5_day_212 rfl ?_
      exact r_iret C dX5_day_213 rfl
    · refine r_aload_n C dX5_day_189 rfl rfl ?_
      refine r_getA C fl_X5_104 hk dX5_day_190 ?_
      refine r_iconst (v := 1) C dX5_day_193 rfl ?_
      refine r_iload_n C dX5_day_194 rfl rfl ?_
      refine r_iadd C dX5_day_195 ?_
      refine r_aload_n C dX5_day_196 rfl rfl ?_
      refine r_getA C fl_X5_104 hk dX5_day_197 ?_
      refine r_bipush (v := 100) C dX5_day_200 rfl ?_
      refine r_iload_n C dX5_day_202 rfl rfl ?_
      refine r_iadd C dX5_day_203 ?_
      refine r_iald C (rg_659 hk) rfl dX5_day_204 fun h2 => ?_
      refine r_iast C (rg_659 hk) (mm_ro_of (k := 5) hk rfl) rfl dX5_day_205 fun h3 => ?_
      refine r_ltP fun P4 => ?_
      refine r_iinc (v := 1) (ls' := [some (.ref th), some (.int x1), some (.int (x2 + (1 : Int32)))]) C dX5_day_206 rfl rfl (Nat.le_of_ble_eq_true rfl) rfl rfl ?_
      refine r_goto (tgt := 182) C dX5_day_209 (by decide) ?_
      exact ih x1 (x2 + (1 : Int32)) P4
def fX5_day_b161 (th : Nat)  (x1 : Int32) (P : mm_P) : Option (Int32 × mm_P) :=
  if (gI P 648 th) ≤ 0 then
  (mm_gd (mm_in (0 : Int32) 200) <|
  mm_lt (sA P 659 th (0 : Int32).toNatClampNeg x1) fun P3 =>
  fX5_day_b182 th mm_NF x1 (0 : Int32) P3)
  else
  (some (gI P 648 th, P))
set_option maxHeartbeats 4000000 in
theorem wfX5_day_b161 {E : mm_E} (C : mm_Cx E RX5 cX5_day 3 (some .int) 5 109) {K : mm_K} {th : Nat} (hk : K.1 th = 5) {nx sl : Nat} (x1 : Int32) (P : mm_P) : mm_V E (mm_wwI K nx sl) 161 [some (.ref th), some (.int x1), none] [] K P nx sl (fX5_day_b161 th x1 P) := by
  unfold fX5_day_b161
  refine r_aload_n C dX5_day_161 rfl rfl ?_
  refine r_getI (code := 648) C fl_X5_177 hk rfl dX5_day_162 ?_
  refine r_ifle (tgt := 173) C dX5_day_165 (by decide) (fun h1 => ?_) (fun h1 => ?_)
  · refine r_aload_n C dX5_day_173 rfl rfl ?_
    refine r_getA C fl_X5_104 hk dX5_day_174 ?_
    refine r_iconst (v := 0) C dX5_day_177 rfl ?_
    refine r_iload_n C dX5_day_178 rfl rfl ?_
    refine r_iast C (rg_659 hk) (mm_ro_of (k := 5) hk rfl) rfl dX5_day_179 fun h2 => ?_
    refine r_ltP fun P3 => ?_
    refine r_iconst (v := 0) C dX5_day_180 rfl ?_
    refine r_istore_n (ls' := [some (.ref th), some (.int x1), some (.int (0 : Int32))]) C dX5_day_181 rfl (Nat.le_of_ble_eq_true rfl) rfl rfl ?_
    exact wfX5_day_b182 C hk mm_NF x1 (0 : Int32) P3
  · refine r_aload_n C dX5_day_168 rfl rfl ?_
    refine r_getI (code := 648) C fl_X5_177 hk rfl dX5_day_169 ?_
    exact r_iret C dX5_day_172 rfl
def fX5_day_b152 (th : Nat) (k11 : Int32 → mm_P → Option (Int32 × mm_P)) (x1 : Int32) (P : mm_P) : Option (Int32 × mm_P) :=
  mm_bd (fX5_takeSign th (59 : Int32) P) fun r1 =>
  k11 x1 r1
set_option maxHeartbeats 4000000 in
theorem wfX5_day_b152 {E : mm_E} (C : mm_Cx E RX5 cX5_day 3 (some .int) 5 109) {K : mm_K} {th : Nat} (hk : K.1 th = 5) {nx sl : Nat} {k11 : Int32 → mm_P → Option (Int32 × mm_P)} (hk11 : ∀ (x1 : Int32) (P : mm_P), mm_V E (mm_wwI K nx sl) 11 [some (.ref th), some (.int x1), none] [] K P nx sl (k11 x1 P)) (x1 : Int32) (P : mm_P) : mm_V E (mm_wwI K nx sl) 152 [some (.ref th), some (.int x1), none] [] K P nx sl (fX5_day_b152 th k11 x1 P) := by
  unfold fX5_day_b152
  refine r_aload_n C dX5_day_152 rfl rfl ?_
  refine r_bipush (v := 59) C dX5_day_153 rfl ?_
  refine r_bd fun r1 h2 => ?_
  refine r_callVv (As := [.int (59 : Int32)]) (st := []) C (mc_X5_takeSign hk h2) cv_X5_237 hk rfl (Nat.le_of_ble_eq_true rfl) (Nat.le_of_ble_eq_true rfl) rfl (Nat.le_of_ble_eq_true rfl) dX5_day_155 ?_
  refine r_goto (tgt := 11) C dX5_day_158 (by decide) ?_
  exact hk11 x1 r1
def fX5_day_b148 (th : Nat) (k11 : Int32 → mm_P → Option (Int32 × mm_P)) (x1 : Int32) (s1 : Int32) (s2 : Int32) (P : mm_P) : Option (Int32 × mm_P) :=
  mm_gd (mm_in s1 200) <|
  mm_lt (sA P 659 th s1.toNatClampNeg s2) fun P2 =>
  fX5_day_b152 th k11 (x1 + (1 : Int32)) P2
set_option maxHeartbeats 4000000 in
theorem wfX5_day_b148 {E : mm_E} (C : mm_Cx E RX5 cX5_day 3 (some .int) 5 109) {K : mm_K} {th : Nat} (hk : K.1 th = 5) {nx sl : Nat} {k11 : Int32 → mm_P → Option (Int32 × mm_P)} (hk11 : ∀ (x1 : Int32) (P : mm_P), mm_V E (mm_wwI K nx sl) 11 [some (.ref th), some (.int x1), none] [] K P nx sl (k11 x1 P)) (x1 : Int32) (s1 : Int32) (s2 : Int32) (P : mm_P) : mm_V E (mm_wwI K nx sl) 148 [some (.ref th), some (.int x1), none] [.int s2, .int s1, .ref (th + 11)] K P nx sl (fX5_day_b148 th k11 x1 s1 s2 P) := by
  unfold fX5_day_b148
  refine r_iast C (rg_659 hk) (mm_ro_of (k := 5) hk rfl) rfl dX5_day_148 fun h1 => ?_
  refine r_ltP fun P2 => ?_
  refine r_iinc (v := 1) (ls' := [some (.ref th), some (.int (x1 + (1 : Int32))), none]) C dX5_day_149 rfl rfl (Nat.le_of_ble_eq_true rfl) rfl rfl ?_
  exact wfX5_day_b152 C hk hk11 (x1 + (1 : Int32)) P2
def fX5_day_b125 (th : Nat) (k11 : Int32 → mm_P → Option (Int32 × mm_P)) (x1 : Int32) (x2 : Int32) (s1 : Int32) (s2 : Int32) (P : mm_P) : Option (Int32 × mm_P) :=
  mm_gd (mm_in s1 200) <|
  mm_lt (sA P 659 th s1.toNatClampNeg s2) fun P2 =>
  if x2 ≠ 0 then
  (fX5_day_b148 th k11 x1 ((102 : Int32) + ((3 : Int32) * x1)) (0 : Int32) P2)
  else
  (mm_bd (fX5_readPegs th P2) fun r4 =>
  fX5_day_b148 th k11 x1 ((102 : Int32) + ((3 : Int32) * x1)) r4.1 r4.2)
set_option maxHeartbeats 4000000 in
theorem wfX5_day_b125 {E : mm_E} (C : mm_Cx E RX5 cX5_day 3 (some .int) 5 109) {K : mm_K} {th : Nat} (hk : K.1 th = 5) {nx sl : Nat} {k11 : Int32 → mm_P → Option (Int32 × mm_P)} (hk11 : ∀ (x1 : Int32) (P : mm_P), mm_V E (mm_wwI K nx sl) 11 [some (.ref th), some (.int x1), none] [] K P nx sl (k11 x1 P)) (x1 : Int32) (x2 : Int32) (s1 : Int32) (s2 : Int32) (P : mm_P) : mm_V E (mm_wwI K nx sl) 125 [some (.ref th), some (.int x1), some (.int x2)] [.int s2, .int s1, .ref (th + 11)] K P nx sl (fX5_day_b125 th k11 x1 x2 s1 s2 P) := by
  unfold fX5_day_b125
  refine r_iast C (rg_659 hk) (mm_ro_of (k := 5) hk rfl) rfl dX5_day_125 fun h1 => ?_
  refine r_ltP fun P2 => ?_
  refine r_aload_n C dX5_day_126 rfl rfl ?_
  refine r_getA C fl_X5_104 hk dX5_day_127 ?_
  refine r_bipush (v := 102) C dX5_day_130 rfl ?_
  refine r_iconst (v := 3) C dX5_day_132 rfl ?_
  refine r_iload_n C dX5_day_133 rfl rfl ?_
  refine r_imul C dX5_day_134 ?_
  refine r_iadd C dX5_day_135 ?_
  refine r_iload_n C dX5_day_136 rfl rfl ?_
  refine r_ifne (tgt := 147) C dX5_day_137 (by decide) (fun h3 => ?_) (fun h3 => ?_)
  · refine r_iconst (v := 0) C dX5_day_147 rfl ?_
    refine r_mask [true, true, false] (ls' := [some (.ref th), some (.int x1), none]) rfl ?_
    exact wfX5_day_b148 C hk hk11 x1 ((102 : Int32) + ((3 : Int32) * x1)) (0 : Int32) P2
  · refine r_aload_n C dX5_day_140 rfl rfl ?_
    refine r_bd fun r4 h5 => ?_
    refine r_callV (As := []) (st := [.int ((102 : Int32) + ((3 : Int32) * x1)), .ref (th + 11)]) C (mc_X5_readPegs hk h5) cv_X5_260 hk rfl (Nat.le_of_ble_eq_true rfl) (Nat.le_of_ble_eq_true rfl) rfl (Nat.le_of_ble_eq_true rfl) dX5_day_141 ?_
    refine r_goto (tgt := 148) C dX5_day_144 (by decide) ?_
    refine r_mask [true, true, false] (ls' := [some (.ref th), some (.int x1), none]) rfl ?_
    exact wfX5_day_b148 C hk hk11 x1 ((102 : Int32) + ((3 : Int32) * x1)) r4.1 r4.2
def fX5_day_b11 (th : Nat)  : Nat → Int32 → mm_P → Option (Int32 × mm_P)
  | 0, _, _ => none
  | n + 1, x1, P =>
  if (gI P 648 th) ≠ 0 then
  (fX5_day_b161 th x1 P)
  else
  (mm_gd (mm_in (gI P 647 th) 1002) <|
  if (gA P 644 th (gI P 647 th).toNatClampNeg) = 0 then
  (fX5_day_b161 th x1 P)
  else
  (mm_bd (fX5_wordHere th P (11 : Int32) (5 : Int32)) fun r4 =>
  if 0 ≤ r4 then
  (if x1 ≠ (30 : Int32) then
  (mm_lt (sI P 647 th ((gI P 647 th) + (1 : Int32))) fun P8 =>
  mm_gd (mm_in ((100 : Int32) + ((3 : Int32) * x1)) 200) <|
  mm_lt (sA P8 659 th ((100 : Int32) + ((3 : Int32) * x1)).toNatClampNeg r4) fun P10 =>
  if (3 : Int32) ≤ r4 then
  (if r4 ≠ (3 : Int32) then
  (fX5_day_b125 th (fX5_day_b11 th n) x1 r4 ((101 : Int32) + ((3 : Int32) * x1)) (0 : Int32) P10)
  else
  (mm_bd (fX5_takeNumber th (1 : Int32) (9 : Int32) P10) fun r13 =>
  fX5_day_b125 th (fX5_day_b11 th n) x1 r4 ((101 : Int32) + ((3 : Int32) * x1)) r13.1 r13.2))
  else
  (mm_bd (fX5_takeTold th (0 : Int32) P10) fun r15 =>
  fX5_day_b125 th (fX5_day_b11 th n) x1 r4 ((101 : Int32) + ((3 : Int32) * x1)) r15.1 r15.2))
  else
  (mm_bd (fX5_wrong th (5 : Int32) P) fun r17 =>
  fX5_day_b152 th (fX5_day_b11 th n) x1 r17))
  else
  (mm_bd (fX5_wrong th (1 : Int32) P) fun r19 =>
  fX5_day_b152 th (fX5_day_b11 th n) x1 r19)))
set_option maxHeartbeats 4000000 in
theorem wfX5_day_b11 {E : mm_E} (C : mm_Cx E RX5 cX5_day 3 (some .int) 5 109) {K : mm_K} {th : Nat} (hk : K.1 th = 5) {nx sl : Nat} : ∀ (n : Nat), ∀ (x1 : Int32) (P : mm_P), mm_V E (mm_wwI K nx sl) 11 [some (.ref th), some (.int x1), none] [] K P nx sl (fX5_day_b11 th n x1 P) := by
  intro n
  induction n with
  | zero => intro x1 P; exact r_none
  | succ n ih =>
    intro x1 P
    rw [fX5_day_b11]
    refine r_aload_n C dX5_day_11 rfl rfl ?_
    refine r_getI (code := 648) C fl_X5_177 hk rfl dX5_day_12 ?_
    refine r_ifne (tgt := 161) C dX5_day_15 (by decide) (fun h1 => ?_) (fun h1 => ?_)
    · exact wfX5_day_b161 C hk x1 P
    · refine r_aload_n C dX5_day_18 rfl rfl ?_
      refine r_getA C fl_X5_24 hk dX5_day_19 ?_
      refine r_aload_n C dX5_day_22 rfl rfl ?_
      refine r_getI (code := 647) C fl_X5_174 hk rfl dX5_day_23 ?_
      refine r_iald C (rg_644 hk) rfl dX5_day_26 fun h2 => ?_
      refine r_ifeq (tgt := 161) C dX5_day_27 (by decide) (fun h3 => ?_) (fun h3 => ?_)
      · exact wfX5_day_b161 C hk x1 P
      · refine r_aload_n C dX5_day_30 rfl rfl ?_
        refine r_bipush (v := 11) C dX5_day_31 rfl ?_
        refine r_iconst (v := 5) C dX5_day_33 rfl ?_
        refine r_bd fun r4 h5 => ?_
        refine r_callV (As := [.int (11 : Int32), .int (5 : Int32)]) (st := []) C (mc_X5_wordHere hk h5) cv_X5_199 hk rfl (Nat.le_of_ble_eq_true rfl) (Nat.le_of_ble_eq_true rfl) rfl (Nat.le_of_ble_eq_true rfl) dX5_day_34 ?_
        refine r_istore_n (ls' := [some (.ref th), some (.int x1), some (.int r4)]) C dX5_day_37 rfl (Nat.le_of_ble_eq_true rfl) rfl rfl ?_
        refine r_iload_n C dX5_day_38 rfl rfl ?_
        refine r_ifge (tgt := 50) C dX5_day_39 (by decide) (fun h6 => ?_) (fun h6 => ?_)
        · refine r_iload_n C dX5_day_50 rfl rfl ?_
          refine r_bipush (v := 30) C dX5_day_51 rfl ?_
          refine r_icmpne (tgt := 64) C dX5_day_53 (by decide) (fun h7 => ?_) (fun h7 => ?_)
          · refine r_aload_n C dX5_day_64 rfl rfl ?_
            refine r_dup C dX5_day_65 rfl ?_
            refine r_getI (code := 647) C fl_X5_174 hk rfl dX5_day_66 ?_
            refine r_iconst (v := 1) C dX5_day_69 rfl ?_
            refine r_iadd C dX5_day_70 ?_
            refine r_putI (code := 647) C fl_X5_174 hk rfl rfl dX5_day_71 ?_
            refine r_ltP fun P8 => ?_
            refine r_aload_n C dX5_day_74 rfl rfl ?_
            refine r_getA C fl_X5_104 hk dX5_day_75 ?_
            refine r_bipush (v := 100) C dX5_day_78 rfl ?_
            refine r_iconst (v := 3) C dX5_day_80 rfl ?_
            refine r_iload_n C dX5_day_81 rfl rfl ?_
            refine r_imul C dX5_day_82 ?_
            refine r_iadd C dX5_day_83 ?_
            refine r_iload_n C dX5_day_84 rfl rfl ?_
            refine r_iast C (rg_659 hk) (mm_ro_of (k := 5) hk rfl) rfl dX5_day_85 fun h9 => ?_
            refine r_ltP fun P10 => ?_
            refine r_aload_n C dX5_day_86 rfl rfl ?_
            refine r_getA C fl_X5_104 hk dX5_day_87 ?_
            refine r_bipush (v := 101) C dX5_day_90 rfl ?_
            refine r_iconst (v := 3) C dX5_day_92 rfl ?_
            refine r_iload_n C dX5_day_93 rfl rfl ?_
            refine r_imul C dX5_day_94 ?_
            refine r_iadd C dX5_day_95 ?_
            refine r_iload_n C dX5_day_96 rfl rfl ?_
            refine r_iconst (v := 3) C dX5_day_97 rfl ?_
            refine r_icmpge (tgt := 109) C dX5_day_98 (by decide) (fun h11 => ?_) (fun h11 => ?_)
            · refine r_iload_n C dX5_day_109 rfl rfl ?_
              refine r_iconst (v := 3) C dX5_day_110 rfl ?_
              refine r_icmpne (tgt := 124) C dX5_day_111 (by decide) (fun h12 => ?_) (fun h12 => ?_)
              · refine r_iconst (v := 0) C dX5_day_124 rfl ?_
                exact wfX5_day_b125 C hk ih x1 r4 ((101 : Int32) + ((3 : Int32) * x1)) (0 : Int32) P10
              · refine r_aload_n C dX5_day_114 rfl rfl ?_
                refine r_iconst (v := 1) C dX5_day_115 rfl ?_
                refine r_bipush (v := 9) C dX5_day_116 rfl ?_
                refine r_bd fun r13 h14 => ?_
                refine r_callV (As := [.int (1 : Int32), .int (9 : Int32)]) (st := [.int ((101 : Int32) + ((3 : Int32) * x1)), .ref (th + 11)]) C (mc_X5_takeNumber hk h14) cv_X5_195 hk rfl (Nat.le_of_ble_eq_true rfl) (Nat.le_of_ble_eq_true rfl) rfl (Nat.le_of_ble_eq_true rfl) dX5_day_118 ?_
                refine r_goto (tgt := 125) C dX5_day_121 (by decide) ?_
                exact wfX5_day_b125 C hk ih x1 r4 ((101 : Int32) + ((3 : Int32) * x1)) r13.1 r13.2
            · refine r_aload_n C dX5_day_101 rfl rfl ?_
              refine r_iconst (v := 0) C dX5_day_102 rfl ?_
              refine r_bd fun r15 h16 => ?_
              refine r_callV (As := [.int (0 : Int32)]) (st := [.int ((101 : Int32) + ((3 : Int32) * x1)), .ref (th + 11)]) C (mc_X5_takeTold hk h16) cv_X5_247 hk rfl (Nat.le_of_ble_eq_true rfl) (Nat.le_of_ble_eq_true rfl) rfl (Nat.le_of_ble_eq_true rfl) dX5_day_103 ?_
              refine r_goto (tgt := 125) C dX5_day_106 (by decide) ?_
              exact wfX5_day_b125 C hk ih x1 r4 ((101 : Int32) + ((3 : Int32) * x1)) r15.1 r15.2
          · refine r_aload_n C dX5_day_56 rfl rfl ?_
            refine r_iconst (v := 5) C dX5_day_57 rfl ?_
            refine r_bd fun r17 h18 => ?_
            refine r_callVv (As := [.int (5 : Int32)]) (st := []) C (mc_X5_wrong hk h18) cv_X5_183 hk rfl (Nat.le_of_ble_eq_true rfl) (Nat.le_of_ble_eq_true rfl) rfl (Nat.le_of_ble_eq_true rfl) dX5_day_58 ?_
            refine r_goto (tgt := 152) C dX5_day_61 (by decide) ?_
            refine r_mask [true, true, false] (ls' := [some (.ref th), some (.int x1), none]) rfl ?_
            exact wfX5_day_b152 C hk ih x1 r17
        · refine r_aload_n C dX5_day_42 rfl rfl ?_
          refine r_iconst (v := 1) C dX5_day_43 rfl ?_
          refine r_bd fun r19 h20 => ?_
          refine r_callVv (As := [.int (1 : Int32)]) (st := []) C (mc_X5_wrong hk h20) cv_X5_183 hk rfl (Nat.le_of_ble_eq_true rfl) (Nat.le_of_ble_eq_true rfl) rfl (Nat.le_of_ble_eq_true rfl) dX5_day_44 ?_
          refine r_goto (tgt := 152) C dX5_day_47 (by decide) ?_
          refine r_mask [true, true, false] (ls' := [some (.ref th), some (.int x1), none]) rfl ?_
          exact wfX5_day_b152 C hk ih x1 r19
def fX5_day (th : Nat)  (P : mm_P) : Option (Int32 × mm_P) :=
  mm_lt (sI P 640 th (0 : Int32)) fun P1 =>
  mm_bd (fX5_cutAll th P1) fun r2 =>
  fX5_day_b11 th mm_NF (0 : Int32) r2
set_option maxHeartbeats 4000000 in
theorem mc_X5_day {l : Launch} {K : mm_K} {P : mm_P} {th : Nat}  {nx sl : Nat} {r : (Int32 × mm_P)} (hk : K.1 th = 5) (h : fX5_day th P = some r) : mm_C l yX5_day (ws_ yX5_day cX5_day 3 (some .int)) 5 109 [.ref th] K P nx sl (mm_wwI K nx sl r) :=
  mm_start (ls := [some (.ref th), none, none]) h (by decide) (Nat.le_of_ble_eq_true rfl) rfl (Nat.le_refl _) (Nat.le_refl _) rfl fun E hl9 _ _ _ C => by
  have C : mm_Cx E RX5 cX5_day 3 (some .int) 5 109 := C
  unfold fX5_day
  refine r_aload_n C dX5_day_0 rfl rfl ?_
  refine r_iconst (v := 0) C dX5_day_1 rfl ?_
  refine r_putI (code := 640) C fl_X5_1 hk rfl rfl dX5_day_2 ?_
  refine r_ltP fun P1 => ?_
  refine r_aload_n C dX5_day_5 rfl rfl ?_
  refine r_bd fun r2 h3 => ?_
  refine r_callVv (As := []) (st := []) C (mc_X5_cutAll hk h3) cv_X5_219 hk rfl (Nat.le_of_ble_eq_true rfl) (Nat.le_of_ble_eq_true rfl) rfl (Nat.le_of_ble_eq_true rfl) dX5_day_6 ?_
  refine r_iconst (v := 0) C dX5_day_9 rfl ?_
  refine r_istore_n (ls' := [some (.ref th), some (.int (0 : Int32)), none]) C dX5_day_10 rfl (Nat.le_of_ble_eq_true rfl) rfl rfl ?_
  exact wfX5_day_b11 C hk mm_NF (0 : Int32) r2
/-! cloths -/
def fX5_cloths (th : Nat) (P : mm_P)  : Option Int32 :=
  mm_gd (mm_in (0 : Int32) 200) <|
  some (gA P 650 th (0 : Int32).toNatClampNeg)
set_option maxHeartbeats 4000000 in
theorem mc_X5_cloths {l : Launch} {K : mm_K} {P : mm_P} {th : Nat}  {nx sl : Nat} {r : Int32} (hk : K.1 th = 5) (h : fX5_cloths th P = some r) : mm_C l yX5_cloths (ws_ yX5_cloths cX5_cloths 1 (some .int)) 0 0 [.ref th] K P nx sl (mm_wrI K P nx sl r) :=
  mm_start (ls := [some (.ref th)]) h (by decide) (Nat.le_of_ble_eq_true rfl) rfl (Nat.le_refl _) (Nat.le_refl _) rfl fun E hl9 _ _ _ C => by
  have C : mm_Cx E RX5 cX5_cloths 1 (some .int) 0 0 := C
  unfold fX5_cloths
  refine r_aload_n C dX5_cloths_0 rfl rfl ?_
  refine r_getA C fl_X5_89 hk dX5_cloths_1 ?_
  refine r_iconst (v := 0) C dX5_cloths_4 rfl ?_
  refine r_iald C (rg_650 hk) rfl dX5_cloths_5 fun h1 => ?_
  exact r_iret C dX5_cloths_6 rfl
/-! isCloth -/
def fX5_isCloth (th : Nat) (P : mm_P) (x1 : Int32) : Option Int32 :=
  if x1 < 0 then
  (some ((0 : Int32)))
  else
  (mm_bd (fX5_cloths th P) fun r2 =>
  if r2 ≤ x1 then
  (some ((0 : Int32)))
  else
  (some ((1 : Int32))))
set_option maxHeartbeats 4000000 in
theorem mc_X5_isCloth {l : Launch} {K : mm_K} {P : mm_P} {th : Nat} {x1 : Int32} {nx sl : Nat} {r : Int32} (hk : K.1 th = 5) (h : fX5_isCloth th P x1 = some r) : mm_C l yX5_isCloth (ws_ yX5_isCloth cX5_isCloth 2 (some .boolean)) 1 20 [.ref th, .int x1] K P nx sl (mm_wrI K P nx sl r) :=
  mm_start (ls := [some (.ref th), some (.int x1)]) h (by decide) (Nat.le_of_ble_eq_true rfl) rfl (Nat.le_refl _) (Nat.le_refl _) rfl fun E hl9 _ _ _ C => by
  have C : mm_Cx E RX5 cX5_isCloth 2 (some .boolean) 1 20 := C
  unfold fX5_isCloth
  refine r_iload_n C dX5_isCloth_0 rfl rfl ?_
  refine r_iflt (tgt := 16) C dX5_isCloth_1 (by decide) (fun h1 => ?_) (fun h1 => ?_)
  · refine r_iconst (v := 0) C dX5_isCloth_16 rfl ?_
    exact r_zret C dX5_isCloth_17 rfl rfl
  · refine r_iload_n C dX5_isCloth_4 rfl rfl ?_
    refine r_aload_n C dX5_isCloth_5 rfl rfl ?_
    refine r_bd fun r2 h3 => ?_
    refine r_callV (As := []) (st := [.int x1]) C (mc_X5_cloths hk h3) cv_X5_292 hk rfl (Nat.le_of_ble_eq_true rfl) (Nat.le_of_ble_eq_true rfl) rfl (Nat.le_of_ble_eq_true rfl) dX5_isCloth_6 ?_
    refine r_icmpge (tgt := 16) C dX5_isCloth_9 (by decide) (fun h4 => ?_) (fun h4 => ?_)
    · refine r_iconst (v := 0) C dX5_isCloth_16 rfl ?_
      exact r_zret C dX5_isCloth_17 rfl rfl
    · refine r_iconst (v := 1) C dX5_isCloth_12 rfl ?_
      refine r_goto (tgt := 17) C dX5_isCloth_13 (by decide) ?_
      exact r_zret C dX5_isCloth_17 rfl rfl
/-! within -/
def fX5_within  (x0 : Int32) (x1 : Int32) (x2 : Int32) : Option Int32 :=
  if x0 < x1 then
  (some ((0 : Int32)))
  else
  (if x2 < x0 then
  (some ((0 : Int32)))
  else
  (some ((1 : Int32))))
set_option maxHeartbeats 4000000 in
theorem mc_X5_within {l : Launch} {K : mm_K} {P : mm_P} {x0 : Int32} {x1 : Int32} {x2 : Int32} {nx sl : Nat} {r : Int32} (h : fX5_within x0 x1 x2 = some r) : mm_C l yX5_within (ws_ yX5_within cX5_within 3 (some .boolean)) 0 0 [.int x0, .int x1, .int x2] K P nx sl (mm_wrI K P nx sl r) :=
  mm_start (ls := [some (.int x0), some (.int x1), some (.int x2)]) h (by decide) (Nat.le_of_ble_eq_true rfl) rfl (Nat.le_refl _) (Nat.le_refl _) rfl fun E hl9 _ _ _ C => by
  have C : mm_Cx E RX5 cX5_within 3 (some .boolean) 0 0 := C
  unfold fX5_within
  refine r_iload_n C dX5_within_0 rfl rfl ?_
  refine r_iload_n C dX5_within_1 rfl rfl ?_
  refine r_icmplt (tgt := 14) C dX5_within_2 (by decide) (fun h1 => ?_) (fun h1 => ?_)
  · refine r_iconst (v := 0) C dX5_within_14 rfl ?_
    exact r_zret C dX5_within_15 rfl rfl
  · refine r_iload_n C dX5_within_5 rfl rfl ?_
    refine r_iload_n C dX5_within_6 rfl rfl ?_
    refine r_icmpgt (tgt := 14) C dX5_within_7 (by decide) (fun h2 => ?_) (fun h2 => ?_)
    · refine r_iconst (v := 0) C dX5_within_14 rfl ?_
      exact r_zret C dX5_within_15 rfl rfl
    · refine r_iconst (v := 1) C dX5_within_10 rfl ?_
      refine r_goto (tgt := 15) C dX5_within_11 (by decide) ?_
      exact r_zret C dX5_within_15 rfl rfl
/-! clothOf -/
def fX5_clothOf (th : Nat) (P : mm_P) (x1 : Int32) (x2 : Int32) : Option Int32 :=
  mm_gd (mm_in (((8 : Int32) + ((4 : Int32) * x1)) + x2) 200) <|
  some (gA P 650 th (((8 : Int32) + ((4 : Int32) * x1)) + x2).toNatClampNeg)
set_option maxHeartbeats 4000000 in
theorem mc_X5_clothOf {l : Launch} {K : mm_K} {P : mm_P} {th : Nat} {x1 : Int32} {x2 : Int32} {nx sl : Nat} {r : Int32} (hk : K.1 th = 5) (h : fX5_clothOf th P x1 x2 = some r) : mm_C l yX5_clothOf (ws_ yX5_clothOf cX5_clothOf 3 (some .int)) 0 0 [.ref th, .int x1, .int x2] K P nx sl (mm_wrI K P nx sl r) :=
  mm_start (ls := [some (.ref th), some (.int x1), some (.int x2)]) h (by decide) (Nat.le_of_ble_eq_true rfl) rfl (Nat.le_refl _) (Nat.le_refl _) rfl fun E hl9 _ _ _ C => by
  have C : mm_Cx E RX5 cX5_clothOf 3 (some .int) 0 0 := C
  unfold fX5_clothOf
  refine r_aload_n C dX5_clothOf_0 rfl rfl ?_
  refine r_getA C fl_X5_89 hk dX5_clothOf_1 ?_
  refine r_bipush (v := 8) C dX5_clothOf_4 rfl ?_
  refine r_iconst (v := 4) C dX5_clothOf_6 rfl ?_
  refine r_iload_n C dX5_clothOf_7 rfl rfl ?_
  refine r_imul C dX5_clothOf_8 ?_
  refine r_iadd C dX5_clothOf_9 ?_
  refine r_iload_n C dX5_clothOf_10 rfl rfl ?_
  refine r_iadd C dX5_clothOf_11 ?_
  refine r_iald C (rg_650 hk) rfl dX5_clothOf_12 fun h1 => ?_
  exact r_iret C dX5_clothOf_13 rfl
/-! bits -/
def fX5_bits_b4   : Nat → Int32 → Int32 → Int32 → Option Int32
  | 0, _, _, _ => none
  | n + 1, x0, x1, x2 =>
  if (30 : Int32) ≤ x2 then
  (some (x1))
  else
  (mm_lt (x1 + ((mm_shr x0 x2) &&& (1 : Int32))) fun v2 =>
  fX5_bits_b4 n x0 v2 (x2 + (1 : Int32)))
set_option maxHeartbeats 4000000 in
theorem wfX5_bits_b4 {E : mm_E} (C : mm_Cx E RX5 cX5_bits 3 (some .int) 0 0) {K : mm_K} {P : mm_P} {nx sl : Nat} : ∀ (n : Nat), ∀ (x0 : Int32) (x1 : Int32) (x2 : Int32), mm_V E (mm_wrI K P nx sl) 4 [some (.int x0), some (.int x1), some (.int x2)] [] K P nx sl (fX5_bits_b4 n x0 x1 x2) := by
  intro n
  induction n with
  | zero => intro x0 x1 x2; exact r_none
  | succ n ih =>
    intro x0 x1 x2
    rw [fX5_bits_b4]
    refine r_iload_n C dX5_bits_4 rfl rfl ?_
    refine r_bipush (v := 30) C dX5_bits_5 rfl ?_
    refine r_icmpge (tgt := 24) C dX5_bits_7 (by decide) (fun h1 => ?_) (fun h1 => ?_)
    · refine r_iload_n C dX5_bits_24 rfl rfl ?_
      exact r_iret C dX5_bits_25 rfl
    · refine r_iload_n C dX5_bits_10 rfl rfl ?_
      refine r_iload_n C dX5_bits_11 rfl rfl ?_
      refine r_iload_n C dX5_bits_12 rfl rfl ?_
      refine r_ishr C dX5_bits_13 ?_
      refine r_iconst (v := 1) C dX5_bits_14 rfl ?_
      refine r_iand C dX5_bits_15 ?_
      refine r_iadd C dX5_bits_16 ?_
      refine r_ltI fun v2 => ?_
      refine r_istore_n (ls' := [some (.int x0), some (.int v2), some (.int x2)]) C dX5_bits_17 rfl (Nat.le_of_ble_eq_true rfl) rfl rfl ?_
      refine r_iinc (v := 1) (ls' := [some (.int x0), some (.int v2), some (.int (x2 + (1 : Int32)))]) C dX5_bits_18 rfl rfl (Nat.le_of_ble_eq_true rfl) rfl rfl ?_
      refine r_goto (tgt := 4) C dX5_bits_21 (by decide) ?_
      exact ih x0 v2 (x2 + (1 : Int32))
def fX5_bits  (x0 : Int32) : Option Int32 :=
  fX5_bits_b4 mm_NF x0 (0 : Int32) (0 : Int32)
set_option maxHeartbeats 4000000 in
theorem mc_X5_bits {l : Launch} {K : mm_K} {P : mm_P} {x0 : Int32} {nx sl : Nat} {r : Int32} (h : fX5_bits x0 = some r) : mm_C l yX5_bits (ws_ yX5_bits cX5_bits 3 (some .int)) 0 0 [.int x0] K P nx sl (mm_wrI K P nx sl r) :=
  mm_start (ls := [some (.int x0), none, none]) h (by decide) (Nat.le_of_ble_eq_true rfl) rfl (Nat.le_refl _) (Nat.le_refl _) rfl fun E hl9 _ _ _ C => by
  have C : mm_Cx E RX5 cX5_bits 3 (some .int) 0 0 := C
  unfold fX5_bits
  refine r_iconst (v := 0) C dX5_bits_0 rfl ?_
  refine r_istore_n (ls' := [some (.int x0), some (.int (0 : Int32)), none]) C dX5_bits_1 rfl (Nat.le_of_ble_eq_true rfl) rfl rfl ?_
  refine r_iconst (v := 0) C dX5_bits_2 rfl ?_
  refine r_istore_n (ls' := [some (.int x0), some (.int (0 : Int32)), some (.int (0 : Int32))]) C dX5_bits_3 rfl (Nat.le_of_ble_eq_true rfl) rfl rfl ?_
  exact wfX5_bits_b4 C mm_NF x0 (0 : Int32) (0 : Int32)
/-! needs -/
def fX5_needs (th : Nat) (P : mm_P) (x1 : Int32) : Option Int32 :=
  mm_bd (fX5_clothOf th P x1 (0 : Int32)) fun r1 =>
  if r1 ≠ (1 : Int32) then
  (some ((2 : Int32)))
  else
  (some ((4 : Int32)))
set_option maxHeartbeats 4000000 in
theorem mc_X5_needs {l : Launch} {K : mm_K} {P : mm_P} {th : Nat} {x1 : Int32} {nx sl : Nat} {r : Int32} (hk : K.1 th = 5) (h : fX5_needs th P x1 = some r) : mm_C l yX5_needs (ws_ yX5_needs cX5_needs 2 (some .int)) 1 22 [.ref th, .int x1] K P nx sl (mm_wrI K P nx sl r) :=
  mm_start (ls := [some (.ref th), some (.int x1)]) h (by decide) (Nat.le_of_ble_eq_true rfl) rfl (Nat.le_refl _) (Nat.le_refl _) rfl fun E hl9 _ _ _ C => by
  have C : mm_Cx E RX5 cX5_needs 2 (some .int) 1 22 := C
  unfold fX5_needs
  refine r_aload_n C dX5_needs_0 rfl rfl ?_
  refine r_iload_n C dX5_needs_1 rfl rfl ?_
  refine r_iconst (v := 0) C dX5_needs_2 rfl ?_
  refine r_bd fun r1 h2 => ?_
  refine r_callV (As := [.int x1, .int (0 : Int32)]) (st := []) C (mc_X5_clothOf hk h2) cv_X5_295 hk rfl (Nat.le_of_ble_eq_true rfl) (Nat.le_of_ble_eq_true rfl) rfl (Nat.le_of_ble_eq_true rfl) dX5_needs_3 ?_
  refine r_iconst (v := 1) C dX5_needs_6 rfl ?_
  refine r_icmpne (tgt := 14) C dX5_needs_7 (by decide) (fun h3 => ?_) (fun h3 => ?_)
  · refine r_iconst (v := 2) C dX5_needs_14 rfl ?_
    exact r_iret C dX5_needs_15 rfl
  · refine r_iconst (v := 4) C dX5_needs_10 rfl ?_
    refine r_goto (tgt := 15) C dX5_needs_11 (by decide) ?_
    exact r_iret C dX5_needs_15 rfl
/-! isLaw -/
def fX5_isLaw (th : Nat) (P : mm_P) (x1 : Int32) (x2 : Int32) : Option Int32 :=
  mm_gd (mm_in ((x1 + (14 : Int32)) + x2) 1242) <|
  mm_bd (fX5_bits (gA P 662 th ((x1 + (14 : Int32)) + x2).toNatClampNeg)) fun r2 =>
  mm_bd (fX5_needs th P x2) fun r4 =>
  if r2 ≠ r4 then
  (some ((0 : Int32)))
  else
  (mm_gd (mm_in ((x1 + (8 : Int32)) + x2) 1242) <|
  if (3 : Int32) ≤ (gA P 662 th ((x1 + (8 : Int32)) + x2).toNatClampNeg) then
  (some ((0 : Int32)))
  else
  (some ((1 : Int32))))
set_option maxHeartbeats 4000000 in
theorem mc_X5_isLaw {l : Launch} {K : mm_K} {P : mm_P} {th : Nat} {x1 : Int32} {x2 : Int32} {nx sl : Nat} {r : Int32} (hk : K.1 th = 5) (h : fX5_isLaw th P x1 x2 = some r) : mm_C l yX5_isLaw (ws_ yX5_isLaw cX5_isLaw 3 (some .boolean)) 2 43 [.ref th, .int x1, .int x2] K P nx sl (mm_wrI K P nx sl r) :=
  mm_start (ls := [some (.ref th), some (.int x1), some (.int x2)]) h (by decide) (Nat.le_of_ble_eq_true rfl) rfl (Nat.le_refl _) (Nat.le_refl _) rfl fun E hl9 _ _ _ C => by
  have C : mm_Cx E RX5 cX5_isLaw 3 (some .boolean) 2 43 := C
  unfold fX5_isLaw
  refine r_aload_n C dX5_isLaw_0 rfl rfl ?_
  refine r_getA C fl_X5_113 hk dX5_isLaw_1 ?_
  refine r_iload_n C dX5_isLaw_4 rfl rfl ?_
  refine r_bipush (v := 14) C dX5_isLaw_5 rfl ?_
  refine r_iadd C dX5_isLaw_7 ?_
  refine r_iload_n C dX5_isLaw_8 rfl rfl ?_
  refine r_iadd C dX5_isLaw_9 ?_
  refine r_iald C (rg_662 hk) rfl dX5_isLaw_10 fun h1 => ?_
  refine r_bd fun r2 h3 => ?_
  refine r_callS (As := [.int (gA P 662 th ((x1 + (14 : Int32)) + x2).toNatClampNeg)]) (st := []) C (mc_X5_bits h3) cv_X5_298  rfl (Nat.le_of_ble_eq_true rfl) (Nat.le_of_ble_eq_true rfl) rfl (Nat.le_of_ble_eq_true rfl) dX5_isLaw_11 ?_
  refine r_aload_n C dX5_isLaw_14 rfl rfl ?_
  refine r_iload_n C dX5_isLaw_15 rfl rfl ?_
  refine r_bd fun r4 h5 => ?_
  refine r_callV (As := [.int x2]) (st := [.int r2]) C (mc_X5_needs hk h5) cv_X5_301 hk rfl (Nat.le_of_ble_eq_true rfl) (Nat.le_of_ble_eq_true rfl) rfl (Nat.le_of_ble_eq_true rfl) dX5_isLaw_16 ?_
  refine r_icmpne (tgt := 41) C dX5_isLaw_19 (by decide) (fun h6 => ?_) (fun h6 => ?_)
  · refine r_iconst (v := 0) C dX5_isLaw_41 rfl ?_
    exact r_zret C dX5_isLaw_42 rfl rfl
  · refine r_aload_n C dX5_isLaw_22 rfl rfl ?_
    refine r_getA C fl_X5_113 hk dX5_isLaw_23 ?_
    refine r_iload_n C dX5_isLaw_26 rfl rfl ?_
    refine r_bipush (v := 8) C dX5_isLaw_27 rfl ?_
    refine r_iadd C dX5_isLaw_29 ?_
    refine r_iload_n C dX5_isLaw_30 rfl rfl ?_
    refine r_iadd C dX5_isLaw_31 ?_
    refine r_iald C (rg_662 hk) rfl dX5_isLaw_32 fun h7 => ?_
    refine r_iconst (v := 3) C dX5_isLaw_33 rfl ?_
    refine r_icmpge (tgt := 41) C dX5_isLaw_34 (by decide) (fun h8 => ?_) (fun h8 => ?_)
    · refine r_iconst (v := 0) C dX5_isLaw_41 rfl ?_
      exact r_zret C dX5_isLaw_42 rfl rfl
    · refine r_iconst (v := 1) C dX5_isLaw_37 rfl ?_
      refine r_goto (tgt := 42) C dX5_isLaw_38 (by decide) ?_
      exact r_zret C dX5_isLaw_42 rfl rfl
/-! isTurned -/
def fX5_isTurned (th : Nat) (P : mm_P) (x1 : Int32) (x2 : Int32) : Option Int32 :=
  mm_gd (mm_in ((x1 + (14 : Int32)) + x2) 1242) <|
  mm_bd (fX5_bits (gA P 662 th ((x1 + (14 : Int32)) + x2).toNatClampNeg)) fun r2 =>
  if r2 ≠ (1 : Int32) then
  (some ((0 : Int32)))
  else
  (some ((1 : Int32)))
set_option maxHeartbeats 4000000 in
theorem mc_X5_isTurned {l : Launch} {K : mm_K} {P : mm_P} {th : Nat} {x1 : Int32} {x2 : Int32} {nx sl : Nat} {r : Int32} (hk : K.1 th = 5) (h : fX5_isTurned th P x1 x2 = some r) : mm_C l yX5_isTurned (ws_ yX5_isTurned cX5_isTurned 3 (some .boolean)) 1 22 [.ref th, .int x1, .int x2] K P nx sl (mm_wrI K P nx sl r) :=
  mm_start (ls := [some (.ref th), some (.int x1), some (.int x2)]) h (by decide) (Nat.le_of_ble_eq_true rfl) rfl (Nat.le_refl _) (Nat.le_refl _) rfl fun E hl9 _ _ _ C => by
  have C : mm_Cx E RX5 cX5_isTurned 3 (some .boolean) 1 22 := C
  unfold fX5_isTurned
  refine r_aload_n C dX5_isTurned_0 rfl rfl ?_
  refine r_getA C fl_X5_113 hk dX5_isTurned_1 ?_
  refine r_iload_n C dX5_isTurned_4 rfl rfl ?_
  refine r_bipush (v := 14) C dX5_isTurned_5 rfl ?_
  refine r_iadd C dX5_isTurned_7 ?_
  refine r_iload_n C dX5_isTurned_8 rfl rfl ?_
  refine r_iadd C dX5_isTurned_9 ?_
  refine r_iald C (rg_662 hk) rfl dX5_isTurned_10 fun h1 => ?_
  refine r_bd fun r2 h3 => ?_
  refine r_callS (As := [.int (gA P 662 th ((x1 + (14 : Int32)) + x2).toNatClampNeg)]) (st := []) C (mc_X5_bits h3) cv_X5_298  rfl (Nat.le_of_ble_eq_true rfl) (Nat.le_of_ble_eq_true rfl) rfl (Nat.le_of_ble_eq_true rfl) dX5_isTurned_11 ?_
  refine r_iconst (v := 1) C dX5_isTurned_14 rfl ?_
  refine r_icmpne (tgt := 22) C dX5_isTurned_15 (by decide) (fun h4 => ?_) (fun h4 => ?_)
  · refine r_iconst (v := 0) C dX5_isTurned_22 rfl ?_
    exact r_zret C dX5_isTurned_23 rfl rfl
  · refine r_iconst (v := 1) C dX5_isTurned_18 rfl ?_
    refine r_goto (tgt := 23) C dX5_isTurned_19 (by decide) ?_
    exact r_zret C dX5_isTurned_23 rfl rfl
/-! isHung -/
def fX5_isHung (th : Nat) (P : mm_P) (x1 : Int32) (x2 : Int32) : Option Int32 :=
  mm_gd (mm_in ((x1 + (14 : Int32)) + x2) 1242) <|
  if (gA P 662 th ((x1 + (14 : Int32)) + x2).toNatClampNeg) = 0 then
  (some ((0 : Int32)))
  else
  (some ((1 : Int32)))
set_option maxHeartbeats 4000000 in
theorem mc_X5_isHung {l : Launch} {K : mm_K} {P : mm_P} {th : Nat} {x1 : Int32} {x2 : Int32} {nx sl : Nat} {r : Int32} (hk : K.1 th = 5) (h : fX5_isHung th P x1 x2 = some r) : mm_C l yX5_isHung (ws_ yX5_isHung cX5_isHung 3 (some .boolean)) 0 0 [.ref th, .int x1, .int x2] K P nx sl (mm_wrI K P nx sl r) :=
  mm_start (ls := [some (.ref th), some (.int x1), some (.int x2)]) h (by decide) (Nat.le_of_ble_eq_true rfl) rfl (Nat.le_refl _) (Nat.le_refl _) rfl fun E hl9 _ _ _ C => by
  have C : mm_Cx E RX5 cX5_isHung 3 (some .boolean) 0 0 := C
  unfold fX5_isHung
  refine r_aload_n C dX5_isHung_0 rfl rfl ?_
  refine r_getA C fl_X5_113 hk dX5_isHung_1 ?_
  refine r_iload_n C dX5_isHung_4 rfl rfl ?_
  refine r_bipush (v := 14) C dX5_isHung_5 rfl ?_
  refine r_iadd C dX5_isHung_7 ?_
  refine r_iload_n C dX5_isHung_8 rfl rfl ?_
  refine r_iadd C dX5_isHung_9 ?_
  refine r_iald C (rg_662 hk) rfl dX5_isHung_10 fun h1 => ?_
  refine r_ifeq (tgt := 18) C dX5_isHung_11 (by decide) (fun h2 => ?_) (fun h2 => ?_)
  · refine r_iconst (v := 0) C dX5_isHung_18 rfl ?_
    exact r_zret C dX5_isHung_19 rfl rfl
  · refine r_iconst (v := 1) C dX5_isHung_14 rfl ?_
    refine r_goto (tgt := 19) C dX5_isHung_15 (by decide) ?_
    exact r_zret C dX5_isHung_19 rfl rfl
/-! roomBy -/
def fX5_roomBy (th : Nat) (P : mm_P) (x1 : Int32) (x2 : Int32) : Option Int32 :=
  if x2 ≠ (1 : Int32) then
  (mm_bd (fX5_clothOf th P x1 (1 : Int32)) fun r2 =>
  some (r2))
  else
  (mm_bd (fX5_clothOf th P x1 (1 : Int32)) fun r4 =>
  some ((r4 / (2 : Int32)) + (1 : Int32)))
set_option maxHeartbeats 4000000 in
theorem mc_X5_roomBy {l : Launch} {K : mm_K} {P : mm_P} {th : Nat} {x1 : Int32} {x2 : Int32} {nx sl : Nat} {r : Int32} (hk : K.1 th = 5) (h : fX5_roomBy th P x1 x2 = some r) : mm_C l yX5_roomBy (ws_ yX5_roomBy cX5_roomBy 3 (some .int)) 1 22 [.ref th, .int x1, .int x2] K P nx sl (mm_wrI K P nx sl r) :=
  mm_start (ls := [some (.ref th), some (.int x1), some (.int x2)]) h (by decide) (Nat.le_of_ble_eq_true rfl) rfl (Nat.le_refl _) (Nat.le_refl _) rfl fun E hl9 _ _ _ C => by
  have C : mm_Cx E RX5 cX5_roomBy 3 (some .int) 1 22 := C
  unfold fX5_roomBy
  refine r_iload_n C dX5_roomBy_0 rfl rfl ?_
  refine r_iconst (v := 1) C dX5_roomBy_1 rfl ?_
  refine r_icmpne (tgt := 18) C dX5_roomBy_2 (by decide) (fun h1 => ?_) (fun h1 => ?_)
  · refine r_aload_n C dX5_roomBy_18 rfl rfl ?_
    refine r_iload_n C dX5_roomBy_19 rfl rfl ?_
    refine r_iconst (v := 1) C dX5_roomBy_20 rfl ?_
    refine r_bd fun r2 h3 => ?_
    refine r_callV (As := [.int x1, .int (1 : Int32)]) (st := []) C (mc_X5_clothOf hk h3) cv_X5_295 hk rfl (Nat.le_of_ble_eq_true rfl) (Nat.le_of_ble_eq_true rfl) rfl (Nat.le_of_ble_eq_true rfl) dX5_roomBy_21 ?_
    exact r_iret C dX5_roomBy_24 rfl
  · refine r_aload_n C dX5_roomBy_5 rfl rfl ?_
    refine r_iload_n C dX5_roomBy_6 rfl rfl ?_
    refine r_iconst (v := 1) C dX5_roomBy_7 rfl ?_
    refine r_bd fun r4 h5 => ?_
    refine r_callV (As := [.int x1, .int (1 : Int32)]) (st := []) C (mc_X5_clothOf hk h5) cv_X5_295 hk rfl (Nat.le_of_ble_eq_true rfl) (Nat.le_of_ble_eq_true rfl) rfl (Nat.le_of_ble_eq_true rfl) dX5_roomBy_8 ?_
    refine r_iconst (v := 2) C dX5_roomBy_11 rfl ?_
    refine r_idiv C dX5_roomBy_12 (by decide) ?_
    refine r_iconst (v := 1) C dX5_roomBy_13 rfl ?_
    refine r_iadd C dX5_roomBy_14 ?_
    refine r_goto (tgt := 24) C dX5_roomBy_15 (by decide) ?_
    exact r_iret C dX5_roomBy_24 rfl
/-! windOf -/
def fX5_windOf (th : Nat) (P : mm_P) (x1 : Int32) (x2 : Int32) : Option Int32 :=
  mm_gd (mm_in (2 : Int32) 200) <|
  mm_gd (¬ (gA P 650 th (2 : Int32).toNatClampNeg) = 0) <|
  mm_gd (mm_in ((76 : Int32) + (mm_rem x1 (gA P 650 th (2 : Int32).toNatClampNeg))) 200) <|
  if x2 = 0 then
  (some ((gA P 650 th ((76 : Int32) + (mm_rem x1 (gA P 650 th (2 : Int32).toNatClampNeg))).toNatClampNeg) + (0 : Int32)))
  else
  (some ((gA P 650 th ((76 : Int32) + (mm_rem x1 (gA P 650 th (2 : Int32).toNatClampNeg))).toNatClampNeg) + (3 : Int32)))
set_option maxHeartbeats 4000000 in
theorem mc_X5_windOf {l : Launch} {K : mm_K} {P : mm_P} {th : Nat} {x1 : Int32} {x2 : Int32} {nx sl : Nat} {r : Int32} (hk : K.1 th = 5) (h : fX5_windOf th P x1 x2 = some r) : mm_C l yX5_windOf (ws_ yX5_windOf cX5_windOf 3 (some .int)) 0 0 [.ref th, .int x1, .int x2] K P nx sl (mm_wrI K P nx sl r) :=
  mm_start (ls := [some (.ref th), some (.int x1), some (.int x2)]) h (by decide) (Nat.le_of_ble_eq_true rfl) rfl (Nat.le_refl _) (Nat.le_refl _) rfl fun E hl9 _ _ _ C => by
  have C : mm_Cx E RX5 cX5_windOf 3 (some .int) 0 0 := C
  unfold fX5_windOf
  refine r_aload_n C dX5_windOf_0 rfl rfl ?_
  refine r_getA C fl_X5_89 hk dX5_windOf_1 ?_
  refine r_bipush (v := 76) C dX5_windOf_4 rfl ?_
  refine r_iload_n C dX5_windOf_6 rfl rfl ?_
  refine r_aload_n C dX5_windOf_7 rfl rfl ?_
  refine r_getA C fl_X5_89 hk dX5_windOf_8 ?_
  refine r_iconst (v := 2) C dX5_windOf_11 rfl ?_
  refine r_iald C (rg_650 hk) rfl dX5_windOf_12 fun h1 => ?_
  refine r_gd fun h2 => ?_
  refine r_irem C dX5_windOf_13 h2 ?_
  refine r_iadd C dX5_windOf_14 ?_
  refine r_iald C (rg_650 hk) rfl dX5_windOf_15 fun h3 => ?_
  refine r_iload_n C dX5_windOf_16 rfl rfl ?_
  refine r_ifeq (tgt := 24) C dX5_windOf_17 (by decide) (fun h4 => ?_) (fun h4 => ?_)
  · refine r_iconst (v := 0) C dX5_windOf_24 rfl ?_
    refine r_iadd C dX5_windOf_25 ?_
    exact r_iret C dX5_windOf_26 rfl
  · refine r_iconst (v := 3) C dX5_windOf_20 rfl ?_
    refine r_goto (tgt := 25) C dX5_windOf_21 (by decide) ?_
    refine r_iadd C dX5_windOf_25 ?_
    exact r_iret C dX5_windOf_26 rfl
/-! laysFacts -/
def fX5_laysFacts_b35 (th : Nat)  (x1 : Int32) (s1 : Int32) (s2 : Int32) (s3 : Int32) (P : mm_P) : Option mm_P :=
  mm_gd (mm_in s1 3) <|
  mm_lt (sA P 660 th s1.toNatClampNeg (s2 + s3)) fun P2 =>
  mm_bd (fX5_clothOf th P2 x1 (1 : Int32)) fun r3 =>
  mm_gd (mm_in (2 : Int32) 3) <|
  mm_lt (sA P2 660 th (2 : Int32).toNatClampNeg r3) fun P6 =>
  some P6
set_option maxHeartbeats 4000000 in
theorem wfX5_laysFacts_b35 {E : mm_E} (C : mm_Cx E RX5 cX5_laysFacts 4 none 1 22) {K : mm_K} {th : Nat} (hk : K.1 th = 5) {nx sl : Nat} (x1 : Int32) (s1 : Int32) (s2 : Int32) (s3 : Int32) (P : mm_P) : mm_V E (mm_wwV K nx sl) 35 [some (.ref th), some (.int x1), none, none] [.int s3, .int s2, .int s1, .ref (th + 12)] K P nx sl (fX5_laysFacts_b35 th x1 s1 s2 s3 P) := by
  unfold fX5_laysFacts_b35
  refine r_iadd C dX5_laysFacts_35 ?_
  refine r_iast C (rg_660 hk) (mm_ro_of (k := 5) hk rfl) rfl dX5_laysFacts_36 fun h1 => ?_
  refine r_ltP fun P2 => ?_
  refine r_aload_n C dX5_laysFacts_37 rfl rfl ?_
  refine r_getA C fl_X5_107 hk dX5_laysFacts_38 ?_
  refine r_iconst (v := 2) C dX5_laysFacts_41 rfl ?_
  refine r_aload_n C dX5_laysFacts_42 rfl rfl ?_
  refine r_iload_n C dX5_laysFacts_43 rfl rfl ?_
  refine r_iconst (v := 1) C dX5_laysFacts_44 rfl ?_
  refine r_bd fun r3 h4 => ?_
  refine r_callV (As := [.int x1, .int (1 : Int32)]) (st := [.int (2 : Int32), .ref (th + 12)]) C (mc_X5_clothOf hk h4) cv_X5_295 hk rfl (Nat.le_of_ble_eq_true rfl) (Nat.le_of_ble_eq_true rfl) rfl (Nat.le_of_ble_eq_true rfl) dX5_laysFacts_45 ?_
  refine r_iast C (rg_660 hk) (mm_ro_of (k := 5) hk rfl) rfl dX5_laysFacts_48 fun h5 => ?_
  refine r_ltP fun P6 => ?_
  exact r_vret C dX5_laysFacts_49 rfl
def fX5_laysFacts (th : Nat) (x1 : Int32) (x2 : Int32) (x3 : Int32) (P : mm_P) : Option mm_P :=
  mm_gd (mm_in (0 : Int32) 3) <|
  mm_lt (sA P 660 th (0 : Int32).toNatClampNeg x3) fun P2 =>
  mm_bd (fX5_clothOf th P2 x1 (2 : Int32)) fun r3 =>
  mm_bd (fX5_clothOf th P2 x1 (0 : Int32)) fun r5 =>
  if r5 ≠ (3 : Int32) then
  (fX5_laysFacts_b35 th x1 (1 : Int32) r3 x2 P2)
  else
  (fX5_laysFacts_b35 th x1 (1 : Int32) r3 ((2 : Int32) * x2) P2)
set_option maxHeartbeats 4000000 in
theorem mc_X5_laysFacts {l : Launch} {K : mm_K} {P : mm_P} {th : Nat} {x1 : Int32} {x2 : Int32} {x3 : Int32} {nx sl : Nat} {r : mm_P} (hk : K.1 th = 5) (h : fX5_laysFacts th x1 x2 x3 P = some r) : mm_C l yX5_laysFacts (ws_ yX5_laysFacts cX5_laysFacts 4 none) 1 22 [.ref th, .int x1, .int x2, .int x3] K P nx sl (mm_wwV K nx sl r) :=
  mm_start (ls := [some (.ref th), some (.int x1), some (.int x2), some (.int x3)]) h (by decide) (Nat.le_of_ble_eq_true rfl) rfl (Nat.le_refl _) (Nat.le_refl _) rfl fun E hl9 _ _ _ C => by
  have C : mm_Cx E RX5 cX5_laysFacts 4 none 1 22 := C
  unfold fX5_laysFacts
  refine r_aload_n C dX5_laysFacts_0 rfl rfl ?_
  refine r_getA C fl_X5_107 hk dX5_laysFacts_1 ?_
  refine r_iconst (v := 0) C dX5_laysFacts_4 rfl ?_
  refine r_iload_n C dX5_laysFacts_5 rfl rfl ?_
  refine r_iast C (rg_660 hk) (mm_ro_of (k := 5) hk rfl) rfl dX5_laysFacts_6 fun h1 => ?_
  refine r_ltP fun P2 => ?_
  refine r_aload_n C dX5_laysFacts_7 rfl rfl ?_
  refine r_getA C fl_X5_107 hk dX5_laysFacts_8 ?_
  refine r_iconst (v := 1) C dX5_laysFacts_11 rfl ?_
  refine r_aload_n C dX5_laysFacts_12 rfl rfl ?_
  refine r_iload_n C dX5_laysFacts_13 rfl rfl ?_
  refine r_iconst (v := 2) C dX5_laysFacts_14 rfl ?_
  refine r_bd fun r3 h4 => ?_
  refine r_callV (As := [.int x1, .int (2 : Int32)]) (st := [.int (1 : Int32), .ref (th + 12)]) C (mc_X5_clothOf hk h4) cv_X5_295 hk rfl (Nat.le_of_ble_eq_true rfl) (Nat.le_of_ble_eq_true rfl) rfl (Nat.le_of_ble_eq_true rfl) dX5_laysFacts_15 ?_
  refine r_aload_n C dX5_laysFacts_18 rfl rfl ?_
  refine r_iload_n C dX5_laysFacts_19 rfl rfl ?_
  refine r_iconst (v := 0) C dX5_laysFacts_20 rfl ?_
  refine r_bd fun r5 h6 => ?_
  refine r_callV (As := [.int x1, .int (0 : Int32)]) (st := [.int r3, .int (1 : Int32), .ref (th + 12)]) C (mc_X5_clothOf hk h6) cv_X5_295 hk rfl (Nat.le_of_ble_eq_true rfl) (Nat.le_of_ble_eq_true rfl) rfl (Nat.le_of_ble_eq_true rfl) dX5_laysFacts_21 ?_
  refine r_iconst (v := 3) C dX5_laysFacts_24 rfl ?_
  refine r_icmpne (tgt := 34) C dX5_laysFacts_25 (by decide) (fun h7 => ?_) (fun h7 => ?_)
  · refine r_iload_n C dX5_laysFacts_34 rfl rfl ?_
    refine r_mask [true, true, false, false] (ls' := [some (.ref th), some (.int x1), none, none]) rfl ?_
    exact wfX5_laysFacts_b35 C hk x1 (1 : Int32) r3 x2 P2
  · refine r_iconst (v := 2) C dX5_laysFacts_28 rfl ?_
    refine r_iload_n C dX5_laysFacts_29 rfl rfl ?_
    refine r_imul C dX5_laysFacts_30 ?_
    refine r_goto (tgt := 35) C dX5_laysFacts_31 (by decide) ?_
    refine r_mask [true, true, false, false] (ls' := [some (.ref th), some (.int x1), none, none]) rfl ?_
    exact wfX5_laysFacts_b35 C hk x1 (1 : Int32) r3 ((2 : Int32) * x2) P2
/-! both -/
def fX5_both  (x0 : Int32) (x1 : Int32) (x2 : Int32) : Option Int32 :=
  if x0 = (4 : Int32) then
  (some (x1 + x2))
  else
  (if x0 = (5 : Int32) then
  (some (x1 - x2))
  else
  (if x0 = (6 : Int32) then
  (some (x1 * x2))
  else
  (if x0 = (7 : Int32) then
  (if x2 ≤ x1 then
  (some ((0 : Int32)))
  else
  (some ((1 : Int32))))
  else
  (if x0 = (8 : Int32) then
  (if x1 ≠ x2 then
  (some ((0 : Int32)))
  else
  (some ((1 : Int32))))
  else
  (if x0 = (9 : Int32) then
  (if x1 = 0 then
  (some ((0 : Int32)))
  else
  (if x2 = 0 then
  (some ((0 : Int32)))
  else
  (some ((1 : Int32)))))
  else
  (if x1 ≠ 0 then
  (some ((1 : Int32)))
  else
  (if x2 = 0 then
  (some ((0 : Int32)))
  else
  (some ((1 : Int32))))))))))
set_option maxHeartbeats 4000000 in
theorem mc_X5_both {l : Launch} {K : mm_K} {P : mm_P} {x0 : Int32} {x1 : Int32} {x2 : Int32} {nx sl : Nat} {r : Int32} (h : fX5_both x0 x1 x2 = some r) : mm_C l yX5_both (ws_ yX5_both cX5_both 3 (some .int)) 0 0 [.int x0, .int x1, .int x2] K P nx sl (mm_wrI K P nx sl r) :=
  mm_start (ls := [some (.int x0), some (.int x1), some (.int x2)]) h (by decide) (Nat.le_of_ble_eq_true rfl) rfl (Nat.le_refl _) (Nat.le_refl _) rfl fun E hl9 _ _ _ C => by
  have C : mm_Cx E RX5 cX5_both 3 (some .int) 0 0 := C
  unfold fX5_both
  refine r_iload_n C dX5_both_0 rfl rfl ?_
  refine r_if (fun h1 => ?_) (fun h1 => ?_)
  · refine r_tableC (tgt := 40) (off := 39) C dX5_both_1 h1 (by decide) (by decide) (by decide) (by decide) ?_
    refine r_iload_n C dX5_both_40 rfl rfl ?_
    refine r_iload_n C dX5_both_41 rfl rfl ?_
    refine r_iadd C dX5_both_42 ?_
    exact r_iret C dX5_both_43 rfl
  refine r_if (fun h2 => ?_) (fun h2 => ?_)
  · refine r_tableC (tgt := 44) (off := 43) C dX5_both_1 h2 (by decide) (by decide) (by decide) (by decide) ?_
    refine r_iload_n C dX5_both_44 rfl rfl ?_
    refine r_iload_n C dX5_both_45 rfl rfl ?_
    refine r_isub C dX5_both_46 ?_
    exact r_iret C dX5_both_47 rfl
  refine r_if (fun h3 => ?_) (fun h3 => ?_)
  · refine r_tableC (tgt := 48) (off := 47) C dX5_both_1 h3 (by decide) (by decide) (by decide) (by decide) ?_
    refine r_iload_n C dX5_both_48 rfl rfl ?_
    refine r_iload_n C dX5_both_49 rfl rfl ?_
    refine r_imul C dX5_both_50 ?_
    exact r_iret C dX5_both_51 rfl
  refine r_if (fun h4 => ?_) (fun h4 => ?_)
  · refine r_tableC (tgt := 52) (off := 51) C dX5_both_1 h4 (by decide) (by decide) (by decide) (by decide) ?_
    refine r_iload_n C dX5_both_52 rfl rfl ?_
    refine r_iload_n C dX5_both_53 rfl rfl ?_
    refine r_icmpge (tgt := 61) C dX5_both_54 (by decide) (fun h5 => ?_) (fun h5 => ?_)
    · refine r_iconst (v := 0) C dX5_both_61 rfl ?_
      exact r_iret C dX5_both_62 rfl
    · refine r_iconst (v := 1) C dX5_both_57 rfl ?_
      refine r_goto (tgt := 62) C dX5_both_58 (by decide) ?_
      exact r_iret C dX5_both_62 rfl
  refine r_if (fun h6 => ?_) (fun h6 => ?_)
  · refine r_tableC (tgt := 63) (off := 62) C dX5_both_1 h6 (by decide) (by decide) (by decide) (by decide) ?_
    refine r_iload_n C dX5_both_63 rfl rfl ?_
    refine r_iload_n C dX5_both_64 rfl rfl ?_
    refine r_icmpne (tgt := 72) C dX5_both_65 (by decide) (fun h7 => ?_) (fun h7 => ?_)
    · refine r_iconst (v := 0) C dX5_both_72 rfl ?_
      exact r_iret C dX5_both_73 rfl
    · refine r_iconst (v := 1) C dX5_both_68 rfl ?_
      refine r_goto (tgt := 73) C dX5_both_69 (by decide) ?_
      exact r_iret C dX5_both_73 rfl
  refine r_if (fun h8 => ?_) (fun h8 => ?_)
  · refine r_tableC (tgt := 74) (off := 73) C dX5_both_1 h8 (by decide) (by decide) (by decide) (by decide) ?_
    refine r_iload_n C dX5_both_74 rfl rfl ?_
    refine r_ifeq (tgt := 86) C dX5_both_75 (by decide) (fun h9 => ?_) (fun h9 => ?_)
    · refine r_iconst (v := 0) C dX5_both_86 rfl ?_
      exact r_iret C dX5_both_87 rfl
    · refine r_iload_n C dX5_both_78 rfl rfl ?_
      refine r_ifeq (tgt := 86) C dX5_both_79 (by decide) (fun h10 => ?_) (fun h10 => ?_)
      · refine r_iconst (v := 0) C dX5_both_86 rfl ?_
        exact r_iret C dX5_both_87 rfl
      · refine r_iconst (v := 1) C dX5_both_82 rfl ?_
        refine r_goto (tgt := 87) C dX5_both_83 (by decide) ?_
        exact r_iret C dX5_both_87 rfl
  refine r_tableD (tgt := 88) (n := 6) C dX5_both_1 (mm_fa h1 (mm_fa h2 (mm_fa h3 (mm_fa h4 (mm_fa h6 (mm_fa h8 (mm_fn))))))) (by decide +kernel) (by decide) (by decide) ?_
  refine r_iload_n C dX5_both_88 rfl rfl ?_
  refine r_ifne (tgt := 96) C dX5_both_89 (by decide) (fun h11 => ?_) (fun h11 => ?_)
  · refine r_iconst (v := 1) C dX5_both_96 rfl ?_
    refine r_goto (tgt := 101) C dX5_both_97 (by decide) ?_
    exact r_iret C dX5_both_101 rfl
  · refine r_iload_n C dX5_both_92 rfl rfl ?_
    refine r_ifeq (tgt := 100) C dX5_both_93 (by decide) (fun h12 => ?_) (fun h12 => ?_)
    · refine r_iconst (v := 0) C dX5_both_100 rfl ?_
      exact r_iret C dX5_both_101 rfl
    · refine r_iconst (v := 1) C dX5_both_96 rfl ?_
      refine r_goto (tgt := 101) C dX5_both_97 (by decide) ?_
      exact r_iret C dX5_both_101 rfl
/-! worthAt -/
def fX5_worthAt_b33 (th : Nat) (k4 : Int32 → Int32 → mm_P → Option (Int32 × mm_P)) (x2 : Int32) (x3 : Int32) (x4 : Int32) (P : mm_P) : Option (Int32 × mm_P) :=
  if x4 ≠ (1 : Int32) then
  (mm_gd (mm_in x3 2200) <|
  mm_gd (mm_in (gA P 652 th x3.toNatClampNeg) 3) <|
  mm_gd (mm_in x2 1100) <|
  mm_lt (sA P 661 th x2.toNatClampNeg (gA P 660 th (gA P 652 th x3.toNatClampNeg).toNatClampNeg)) fun P5 =>
  k4 (x2 + (1 : Int32)) (x3 + (1 : Int32)) P5)
  else
  (mm_gd (mm_in x3 2200) <|
  mm_gd (mm_in x2 1100) <|
  mm_lt (sA P 661 th x2.toNatClampNeg (gA P 652 th x3.toNatClampNeg)) fun P8 =>
  k4 (x2 + (1 : Int32)) (x3 + (1 : Int32)) P8)
set_option maxHeartbeats 4000000 in
theorem wfX5_worthAt_b33 {E : mm_E} (C : mm_Cx E RX5 cX5_worthAt 5 (some .int) 1 22) {K : mm_K} {th : Nat} (hk : K.1 th = 5) {nx sl : Nat} {k4 : Int32 → Int32 → mm_P → Option (Int32 × mm_P)} (hk4 : ∀ (x2 : Int32) (x3 : Int32) (P : mm_P), mm_V E (mm_wwI K nx sl) 4 [some (.ref th), none, some (.int x2), some (.int x3), none] [] K P nx sl (k4 x2 x3 P)) (x2 : Int32) (x3 : Int32) (x4 : Int32) (P : mm_P) : mm_V E (mm_wwI K nx sl) 33 [some (.ref th), none, some (.int x2), some (.int x3), some (.int x4)] [] K P nx sl (fX5_worthAt_b33 th k4 x2 x3 x4 P) := by
  unfold fX5_worthAt_b33
  refine r_aload_n C dX5_worthAt_33 rfl rfl ?_
  refine r_getA C fl_X5_110 hk dX5_worthAt_34 ?_
  refine r_iload_n C dX5_worthAt_37 rfl rfl ?_
  refine r_iload C dX5_worthAt_38 rfl ?_
  refine r_iconst (v := 1) C dX5_worthAt_40 rfl ?_
  refine r_icmpne (tgt := 53) C dX5_worthAt_41 (by decide) (fun h1 => ?_) (fun h1 => ?_)
  · refine r_aload_n C dX5_worthAt_53 rfl rfl ?_
    refine r_getA C fl_X5_107 hk dX5_worthAt_54 ?_
    refine r_aload_n C dX5_worthAt_57 rfl rfl ?_
    refine r_getA C fl_X5_95 hk dX5_worthAt_58 ?_
    refine r_iload_n C dX5_worthAt_61 rfl rfl ?_
    refine r_iald C (rg_652 hk) rfl dX5_worthAt_62 fun h2 => ?_
    refine r_iald C (rg_660 hk) rfl dX5_worthAt_63 fun h3 => ?_
    refine r_iast C (rg_661 hk) (mm_ro_of (k := 5) hk rfl) rfl dX5_worthAt_64 fun h4 => ?_
    refine r_ltP fun P5 => ?_
    refine r_iinc (v := 1) (ls' := [some (.ref th), none, some (.int (x2 + (1 : Int32))), some (.int x3), some (.int x4)]) C dX5_worthAt_65 rfl rfl (Nat.le_of_ble_eq_true rfl) rfl rfl ?_
    refine r_goto (tgt := 134) C dX5_worthAt_68 (by decide) ?_
    refine r_iinc (v := 1) (ls' := [some (.ref th), none, some (.int (x2 + (1 : Int32))), some (.int (x3 + (1 : Int32))), some (.int x4)]) C dX5_worthAt_134 rfl rfl (Nat.le_of_ble_eq_true rfl) rfl rfl ?_
    refine r_goto (tgt := 4) C dX5_worthAt_137 (by decide) ?_
    refine r_mask [true, true, true, true, false] (ls' := [some (.ref th), none, some (.int (x2 + (1 : Int32))), some (.int (x3 + (1 : Int32))), none]) rfl ?_
    exact hk4 (x2 + (1 : Int32)) (x3 + (1 : Int32)) P5
  · refine r_aload_n C dX5_worthAt_44 rfl rfl ?_
    refine r_getA C fl_X5_95 hk dX5_worthAt_45 ?_
    refine r_iload_n C dX5_worthAt_48 rfl rfl ?_
    refine r_iald C (rg_652 hk) rfl dX5_worthAt_49 fun h6 => ?_
    refine r_goto (tgt := 64) C dX5_worthAt_50 (by decide) ?_
    refine r_iast C (rg_661 hk) (mm_ro_of (k := 5) hk rfl) rfl dX5_worthAt_64 fun h7 => ?_
    refine r_ltP fun P8 => ?_
    refine r_iinc (v := 1) (ls' := [some (.ref th), none, some (.int (x2 + (1 : Int32))), some (.int x3), some (.int x4)]) C dX5_worthAt_65 rfl rfl (Nat.le_of_ble_eq_true rfl) rfl rfl ?_
    refine r_goto (tgt := 134) C dX5_worthAt_68 (by decide) ?_
    refine r_iinc (v := 1) (ls' := [some (.ref th), none, some (.int (x2 + (1 : Int32))), some (.int (x3 + (1 : Int32))), some (.int x4)]) C dX5_worthAt_134 rfl rfl (Nat.le_of_ble_eq_true rfl) rfl rfl ?_
    refine r_goto (tgt := 4) C dX5_worthAt_137 (by decide) ?_
    refine r_mask [true, true, true, true, false] (ls' := [some (.ref th), none, some (.int (x2 + (1 : Int32))), some (.int (x3 + (1 : Int32))), none]) rfl ?_
    exact hk4 (x2 + (1 : Int32)) (x3 + (1 : Int32)) P8
def fX5_worthAt_b4 (th : Nat)  : Nat → Int32 → Int32 → mm_P → Option (Int32 × mm_P)
  | 0, _, _, _ => none
  | n + 1, x2, x3, P =>
  mm_gd (mm_in x3 2200) <|
  if (gA P 651 th x3.toNatClampNeg) = 0 then
  (mm_gd (mm_in (0 : Int32) 1100) <|
  some (gA P 661 th (0 : Int32).toNatClampNeg, P))
  else
  (mm_gd (mm_in x3 2200) <|
  mm_lt (gA P 651 th x3.toNatClampNeg) fun v5 =>
  if v5 = (1 : Int32) then
  (fX5_worthAt_b33 th (fX5_worthAt_b4 th n) x2 x3 v5 P)
  else
  (if v5 ≠ (2 : Int32) then
  (if v5 ≠ (3 : Int32) then
  (mm_gd (mm_in ((x2 + (-1 : Int32)) - (1 : Int32)) 1100) <|
  mm_gd (mm_in (x2 + (-1 : Int32)) 1100) <|
  mm_bd (fX5_both v5 (gA P 661 th ((x2 + (-1 : Int32)) - (1 : Int32)).toNatClampNeg) (gA P 661 th (x2 + (-1 : Int32)).toNatClampNeg)) fun r11 =>
  mm_gd (mm_in ((x2 + (-1 : Int32)) - (1 : Int32)) 1100) <|
  mm_lt (sA P 661 th ((x2 + (-1 : Int32)) - (1 : Int32)).toNatClampNeg r11) fun P14 =>
  fX5_worthAt_b4 th n (x2 + (-1 : Int32)) (x3 + (1 : Int32)) P14)
  else
  (mm_gd (mm_in (x2 - (1 : Int32)) 1100) <|
  if (gA P 661 th (x2 - (1 : Int32)).toNatClampNeg) ≠ 0 then
  (mm_gd (mm_in (x2 - (1 : Int32)) 1100) <|
  mm_lt (sA P 661 th (x2 - (1 : Int32)).toNatClampNeg (0 : Int32)) fun P18 =>
  fX5_worthAt_b4 th n x2 (x3 + (1 : Int32)) P18)
  else
  (mm_gd (mm_in (x2 - (1 : Int32)) 1100) <|
  mm_lt (sA P 661 th (x2 - (1 : Int32)).toNatClampNeg (1 : Int32)) fun P20 =>
  fX5_worthAt_b4 th n x2 (x3 + (1 : Int32)) P20)))
  else
  (fX5_worthAt_b33 th (fX5_worthAt_b4 th n) x2 x3 v5 P)))
set_option maxHeartbeats 4000000 in
theorem wfX5_worthAt_b4 {E : mm_E} (C : mm_Cx E RX5 cX5_worthAt 5 (some .int) 1 22) {K : mm_K} {th : Nat} (hk : K.1 th = 5) {nx sl : Nat} : ∀ (n : Nat), ∀ (x2 : Int32) (x3 : Int32) (P : mm_P), mm_V E (mm_wwI K nx sl) 4 [some (.ref th), none, some (.int x2), some (.int x3), none] [] K P nx sl (fX5_worthAt_b4 th n x2 x3 P) := by
  intro n
  induction n with
  | zero => intro x2 x3 P; exact r_none
  | succ n ih =>
    intro x2 x3 P
    rw [fX5_worthAt_b4]
    refine r_aload_n C dX5_worthAt_4 rfl rfl ?_
    refine r_getA C fl_X5_92 hk dX5_worthAt_5 ?_
    refine r_iload_n C dX5_worthAt_8 rfl rfl ?_
    refine r_iald C (rg_651 hk) rfl dX5_worthAt_9 fun h1 => ?_
    refine r_ifeq (tgt := 140) C dX5_worthAt_10 (by decide) (fun h2 => ?_) (fun h2 => ?_)
    · refine r_aload_n C dX5_worthAt_140 rfl rfl ?_
      refine r_getA C fl_X5_110 hk dX5_worthAt_141 ?_
      refine r_iconst (v := 0) C dX5_worthAt_144 rfl ?_
      refine r_iald C (rg_661 hk) rfl dX5_worthAt_145 fun h3 => ?_
      exact r_iret C dX5_worthAt_146 rfl
    · refine r_aload_n C dX5_worthAt_13 rfl rfl ?_
      refine r_getA C fl_X5_92 hk dX5_worthAt_14 ?_
      refine r_iload_n C dX5_worthAt_17 rfl rfl ?_
      refine r_iald C (rg_651 hk) rfl dX5_worthAt_18 fun h4 => ?_
      refine r_ltI fun v5 => ?_
      refine r_istore (ls' := [some (.ref th), none, some (.int x2), some (.int x3), some (.int v5)]) C dX5_worthAt_19 (Nat.le_of_ble_eq_true rfl) rfl rfl ?_
      refine r_iload C dX5_worthAt_21 rfl ?_
      refine r_iconst (v := 1) C dX5_worthAt_23 rfl ?_
      refine r_icmpeq (tgt := 33) C dX5_worthAt_24 (by decide) (fun h6 => ?_) (fun h6 => ?_)
      · exact wfX5_worthAt_b33 C hk ih x2 x3 v5 P
      · refine r_iload C dX5_worthAt_27 rfl ?_
        refine r_iconst (v := 2) C dX5_worthAt_29 rfl ?_
        refine r_icmpne (tgt := 71) C dX5_worthAt_30 (by decide) (fun h7 => ?_) (fun h7 => ?_)
        · refine r_iload C dX5_worthAt_71 rfl ?_
          refine r_iconst (v := 3) C dX5_worthAt_73 rfl ?_
          refine r_icmpne (tgt := 104) C dX5_worthAt_74 (by decide) (fun h8 => ?_) (fun h8 => ?_)
          · refine r_iinc (v := -1) (ls' := [some (.ref th), none, some (.int (x2 + (-1 : Int32))), some (.int x3), some (.int v5)]) C dX5_worthAt_104 rfl rfl (Nat.le_of_ble_eq_true rfl) rfl rfl ?_
            refine r_aload_n C dX5_worthAt_107 rfl rfl ?_
            refine r_getA C fl_X5_110 hk dX5_worthAt_108 ?_
            refine r_iload_n C dX5_worthAt_111 rfl rfl ?_
            refine r_iconst (v := 1) C dX5_worthAt_112 rfl ?_
            refine r_isub C dX5_worthAt_113 ?_
            refine r_iload C dX5_worthAt_114 rfl ?_
            refine r_aload_n C dX5_worthAt_116 rfl rfl ?_
            refine r_getA C fl_X5_110 hk dX5_worthAt_117 ?_
            refine r_iload_n C dX5_worthAt_120 rfl rfl ?_
            refine r_iconst (v := 1) C dX5_worthAt_121 rfl ?_
            refine r_isub C dX5_worthAt_122 ?_
            refine r_iald C (rg_661 hk) rfl dX5_worthAt_123 fun h9 => ?_
            refine r_aload_n C dX5_worthAt_124 rfl rfl ?_
            refine r_getA C fl_X5_110 hk dX5_worthAt_125 ?_
            refine r_iload_n C dX5_worthAt_128 rfl rfl ?_
            refine r_iald C (rg_661 hk) rfl dX5_worthAt_129 fun h10 => ?_
            refine r_bd fun r11 h12 => ?_
            refine r_callS (As := [.int v5, .int (gA P 661 th ((x2 + (-1 : Int32)) - (1 : Int32)).toNatClampNeg), .int (gA P 661 th (x2 + (-1 : Int32)).toNatClampNeg)]) (st := [.int ((x2 + (-1 : Int32)) - (1 : Int32)), .ref (th + 13)]) C (mc_X5_both h12) cv_X5_279  rfl (Nat.le_of_ble_eq_true rfl) (Nat.le_of_ble_eq_true rfl) rfl (Nat.le_of_ble_eq_true rfl) dX5_worthAt_130 ?_
            refine r_iast C (rg_661 hk) (mm_ro_of (k := 5) hk rfl) rfl dX5_worthAt_133 fun h13 => ?_
            refine r_ltP fun P14 => ?_
            refine r_iinc (v := 1) (ls' := [some (.ref th), none, some (.int (x2 + (-1 : Int32))), some (.int (x3 + (1 : Int32))), some (.int v5)]) C dX5_worthAt_134 rfl rfl (Nat.le_of_ble_eq_true rfl) rfl rfl ?_
            refine r_goto (tgt := 4) C dX5_worthAt_137 (by decide) ?_
            refine r_mask [true, true, true, true, false] (ls' := [some (.ref th), none, some (.int (x2 + (-1 : Int32))), some (.int (x3 + (1 : Int32))), none]) rfl ?_
            exact ih (x2 + (-1 : Int32)) (x3 + (1 : Int32)) P14
          · refine r_aload_n C dX5_worthAt_77 rfl rfl ?_
            refine r_getA C fl_X5_110 hk dX5_worthAt_78 ?_
            refine r_iload_n C dX5_worthAt_81 rfl rfl ?_
            refine r_iconst (v := 1) C dX5_worthAt_82 rfl ?_
            refine r_isub C dX5_worthAt_83 ?_
            refine r_aload_n C dX5_worthAt_84 rfl rfl ?_
            refine r_getA C fl_X5_110 hk dX5_worthAt_85 ?_
            refine r_iload_n C dX5_worthAt_88 rfl rfl ?_
            refine r_iconst (v := 1) C dX5_worthAt_89 rfl ?_
            refine r_isub C dX5_worthAt_90 ?_
            refine r_iald C (rg_661 hk) rfl dX5_worthAt_91 fun h15 => ?_
            refine r_ifne (tgt := 99) C dX5_worthAt_92 (by decide) (fun h16 => ?_) (fun h16 => ?_)
            · refine r_iconst (v := 0) C dX5_worthAt_99 rfl ?_
              refine r_iast C (rg_661 hk) (mm_ro_of (k := 5) hk rfl) rfl dX5_worthAt_100 fun h17 => ?_
              refine r_ltP fun P18 => ?_
              refine r_goto (tgt := 134) C dX5_worthAt_101 (by decide) ?_
              refine r_iinc (v := 1) (ls' := [some (.ref th), none, some (.int x2), some (.int (x3 + (1 : Int32))), some (.int v5)]) C dX5_worthAt_134 rfl rfl (Nat.le_of_ble_eq_true rfl) rfl rfl ?_
              refine r_goto (tgt := 4) C dX5_worthAt_137 (by decide) ?_
              refine r_mask [true, true, true, true, false] (ls' := [some (.ref th), none, some (.int x2), some (.int (x3 + (1 : Int32))), none]) rfl ?_
              exact ih x2 (x3 + (1 : Int32)) P18
            · refine r_iconst (v := 1) C dX5_worthAt_95 rfl ?_
              refine r_goto (tgt := 100) C dX5_worthAt_96 (by decide) ?_
              refine r_iast C (rg_661 hk) (mm_ro_of (k := 5) hk rfl) rfl dX5_worthAt_100 fun h19 => ?_
              refine r_ltP fun P20 => ?_
              refine r_goto (tgt := 134) C dX5_worthAt_101 (by decide) ?_
              refine r_iinc (v := 1) (ls' := [some (.ref th), none, some (.int x2), some (.int (x3 + (1 : Int32))), some (.int v5)]) C dX5_worthAt_134 rfl rfl (Nat.le_of_ble_eq_true rfl) rfl rfl ?_
              refine r_goto (tgt := 4) C dX5_worthAt_137 (by decide) ?_
              refine r_mask [true, true, true, true, false] (ls' := [some (.ref th), none, some (.int x2), some (.int (x3 + (1 : Int32))), none]) rfl ?_
              exact ih x2 (x3 + (1 : Int32)) P20
        · exact wfX5_worthAt_b33 C hk ih x2 x3 v5 P
def fX5_worthAt (th : Nat) (x1 : Int32) (P : mm_P) : Option (Int32 × mm_P) :=
  fX5_worthAt_b4 th mm_NF (0 : Int32) x1 P
set_option maxHeartbeats 4000000 in
theorem mc_X5_worthAt {l : Launch} {K : mm_K} {P : mm_P} {th : Nat} {x1 : Int32} {nx sl : Nat} {r : (Int32 × mm_P)} (hk : K.1 th = 5) (h : fX5_worthAt th x1 P = some r) : mm_C l yX5_worthAt (ws_ yX5_worthAt cX5_worthAt 5 (some .int)) 1 22 [.ref th, .int x1] K P nx sl (mm_wwI K nx sl r) :=
  mm_start (ls := [some (.ref th), some (.int x1), none, none, none]) h (by decide) (Nat.le_of_ble_eq_true rfl) rfl (Nat.le_refl _) (Nat.le_refl _) rfl fun E hl9 _ _ _ C => by
  have C : mm_Cx E RX5 cX5_worthAt 5 (some .int) 1 22 := C
  unfold fX5_worthAt
  refine r_iconst (v := 0) C dX5_worthAt_0 rfl ?_
  refine r_istore_n (ls' := [some (.ref th), some (.int x1), some (.int (0 : Int32)), none, none]) C dX5_worthAt_1 rfl (Nat.le_of_ble_eq_true rfl) rfl rfl ?_
  refine r_iload_n C dX5_worthAt_2 rfl rfl ?_
  refine r_istore_n (ls' := [some (.ref th), some (.int x1), some (.int (0 : Int32)), some (.int x1), none]) C dX5_worthAt_3 rfl (Nat.le_of_ble_eq_true rfl) rfl rfl ?_
  refine r_mask [true, false, true, true, true] (ls' := [some (.ref th), none, some (.int (0 : Int32)), some (.int x1), none]) rfl ?_
  exact wfX5_worthAt_b4 C hk mm_NF (0 : Int32) x1 P
/-! pullOf -/
def fX5_pullOf_b76 (th : Nat)  (x1 : Int32) (s0 : Int32) (P : mm_P) : Option (Int32 × mm_P) :=
  mm_bd (fX5_clothOf th P x1 (0 : Int32)) fun r1 =>
  if r1 ≠ (2 : Int32) then
  (some (s0, P))
  else
  (some ((2 : Int32) * s0, P))
set_option maxHeartbeats 4000000 in
theorem wfX5_pullOf_b76 {E : mm_E} (C : mm_Cx E RX5 cX5_pullOf 5 (some .int) 2 46) {K : mm_K} {th : Nat} (hk : K.1 th = 5) {nx sl : Nat} (x1 : Int32) (s0 : Int32) (P : mm_P) : mm_V E (mm_wwI K nx sl) 76 [some (.ref th), some (.int x1), none, none, none] [.int s0] K P nx sl (fX5_pullOf_b76 th x1 s0 P) := by
  unfold fX5_pullOf_b76
  refine r_istore (ls' := [some (.ref th), some (.int x1), none, none, some (.int s0)]) C dX5_pullOf_76 (Nat.le_of_ble_eq_true rfl) rfl rfl ?_
  refine r_aload_n C dX5_pullOf_78 rfl rfl ?_
  refine r_iload_n C dX5_pullOf_79 rfl rfl ?_
  refine r_iconst (v := 0) C dX5_pullOf_80 rfl ?_
  refine r_bd fun r1 h2 => ?_
  refine r_callV (As := [.int x1, .int (0 : Int32)]) (st := []) C (mc_X5_clothOf hk h2) cv_X5_295 hk rfl (Nat.le_of_ble_eq_true rfl) (Nat.le_of_ble_eq_true rfl) rfl (Nat.le_of_ble_eq_true rfl) dX5_pullOf_81 ?_
  refine r_iconst (v := 2) C dX5_pullOf_84 rfl ?_
  refine r_icmpne (tgt := 95) C dX5_pullOf_85 (by decide) (fun h3 => ?_) (fun h3 => ?_)
  · refine r_iload C dX5_pullOf_95 rfl ?_
    exact r_iret C dX5_pullOf_97 rfl
  · refine r_iconst (v := 2) C dX5_pullOf_88 rfl ?_
    refine r_iload C dX5_pullOf_89 rfl ?_
    refine r_imul C dX5_pullOf_91 ?_
    refine r_goto (tgt := 97) C dX5_pullOf_92 (by decide) ?_
    exact r_iret C dX5_pullOf_97 rfl
def fX5_pullOf_b51 (th : Nat)  (x1 : Int32) (s0 : Int32) (P : mm_P) : Option (Int32 × mm_P) :=
  if 0 ≤ s0 then
  (if s0 ≤ (99 : Int32) then
  (fX5_pullOf_b76 th x1 s0 P)
  else
  (fX5_pullOf_b76 th x1 (99 : Int32) P))
  else
  (fX5_pullOf_b76 th x1 (0 : Int32) P)
set_option maxHeartbeats 4000000 in
theorem wfX5_pullOf_b51 {E : mm_E} (C : mm_Cx E RX5 cX5_pullOf 5 (some .int) 2 46) {K : mm_K} {th : Nat} (hk : K.1 th = 5) {nx sl : Nat} (x1 : Int32) (s0 : Int32) (P : mm_P) : mm_V E (mm_wwI K nx sl) 51 [some (.ref th), some (.int x1), none, none, none] [.int s0] K P nx sl (fX5_pullOf_b51 th x1 s0 P) := by
  unfold fX5_pullOf_b51
  refine r_istore (ls' := [some (.ref th), some (.int x1), none, none, some (.int s0)]) C dX5_pullOf_51 (Nat.le_of_ble_eq_true rfl) rfl rfl ?_
  refine r_iload C dX5_pullOf_53 rfl ?_
  refine r_ifge (tgt := 62) C dX5_pullOf_55 (by decide) (fun h1 => ?_) (fun h1 => ?_)
  · refine r_iload C dX5_pullOf_62 rfl ?_
    refine r_bipush (v := 99) C dX5_pullOf_64 rfl ?_
    refine r_icmple (tgt := 74) C dX5_pullOf_66 (by decide) (fun h2 => ?_) (fun h2 => ?_)
    · refine r_iload C dX5_pullOf_74 rfl ?_
      refine r_mask [true, true, true, true, false] (ls' := [some (.ref th), some (.int x1), none, none, none]) rfl ?_
      exact wfX5_pullOf_b76 C hk x1 s0 P
    · refine r_bipush (v := 99) C dX5_pullOf_69 rfl ?_
      refine r_goto (tgt := 76) C dX5_pullOf_71 (by decide) ?_
      refine r_mask [true, true, true, true, false] (ls' := [some (.ref th), some (.int x1), none, none, none]) rfl ?_
      exact wfX5_pullOf_b76 C hk x1 (99 : Int32) P
  · refine r_iconst (v := 0) C dX5_pullOf_58 rfl ?_
    refine r_goto (tgt := 76) C dX5_pullOf_59 (by decide) ?_
    refine r_mask [true, true, true, true, false] (ls' := [some (.ref th), some (.int x1), none, none, none]) rfl ?_
    exact wfX5_pullOf_b76 C hk x1 (0 : Int32) P
def fX5_pullOf (th : Nat) (x1 : Int32) (x2 : Int32) (x3 : Int32) (P : mm_P) : Option (Int32 × mm_P) :=
  mm_bd (fX5_laysFacts th x1 x2 x3 P) fun r1 =>
  mm_gd (mm_in (6 : Int32) 200) <|
  if 0 ≤ (gA r1 650 th (6 : Int32).toNatClampNeg) then
  (mm_gd (mm_in (6 : Int32) 200) <|
  mm_bd (fX5_worthAt th (gA r1 650 th (6 : Int32).toNatClampNeg) r1) fun r6 =>
  fX5_pullOf_b51 th x1 r6.1 r6.2)
  else
  (mm_gd (mm_in (0 : Int32) 3) <|
  mm_gd (mm_in (2 : Int32) 3) <|
  mm_gd (mm_in (1 : Int32) 3) <|
  fX5_pullOf_b51 th x1 (((gA r1 660 th (0 : Int32).toNatClampNeg) + (gA r1 660 th (2 : Int32).toNatClampNeg)) - (gA r1 660 th (1 : Int32).toNatClampNeg)) r1)
set_option maxHeartbeats 4000000 in
theorem mc_X5_pullOf {l : Launch} {K : mm_K} {P : mm_P} {th : Nat} {x1 : Int32} {x2 : Int32} {x3 : Int32} {nx sl : Nat} {r : (Int32 × mm_P)} (hk : K.1 th = 5) (h : fX5_pullOf th x1 x2 x3 P = some r) : mm_C l yX5_pullOf (ws_ yX5_pullOf cX5_pullOf 5 (some .int)) 2 46 [.ref th, .int x1, .int x2, .int x3] K P nx sl (mm_wwI K nx sl r) :=
  mm_start (ls := [some (.ref th), some (.int x1), some (.int x2), some (.int x3), none]) h (by decide) (Nat.le_of_ble_eq_true rfl) rfl (Nat.le_refl _) (Nat.le_refl _) rfl fun E hl9 _ _ _ C => by
  have C : mm_Cx E RX5 cX5_pullOf 5 (some .int) 2 46 := C
  unfold fX5_pullOf
  refine r_aload_n C dX5_pullOf_0 rfl rfl ?_
  refine r_iload_n C dX5_pullOf_1 rfl rfl ?_
  refine r_iload_n C dX5_pullOf_2 rfl rfl ?_
  refine r_iload_n C dX5_pullOf_3 rfl rfl ?_
  refine r_bd fun r1 h2 => ?_
  refine r_callVv (As := [.int x1, .int x2, .int x3]) (st := []) C (mc_X5_laysFacts hk h2) cv_X5_311 hk rfl (Nat.le_of_ble_eq_true rfl) (Nat.le_of_ble_eq_true rfl) rfl (Nat.le_of_ble_eq_true rfl) dX5_pullOf_4 ?_
  refine r_aload_n C dX5_pullOf_7 rfl rfl ?_
  refine r_getA C fl_X5_89 hk dX5_pullOf_8 ?_
  refine r_bipush (v := 6) C dX5_pullOf_11 rfl ?_
  refine r_iald C (rg_650 hk) rfl dX5_pullOf_13 fun h3 => ?_
  refine r_ifge (tgt := 40) C dX5_pullOf_14 (by decide) (fun h4 => ?_) (fun h4 => ?_)
  · refine r_aload_n C dX5_pullOf_40 rfl rfl ?_
    refine r_aload_n C dX5_pullOf_41 rfl rfl ?_
    refine r_getA C fl_X5_89 hk dX5_pullOf_42 ?_
    refine r_bipush (v := 6) C dX5_pullOf_45 rfl ?_
    refine r_iald C (rg_650 hk) rfl dX5_pullOf_47 fun h5 => ?_
    refine r_bd fun r6 h7 => ?_
    refine r_callV (As := [.int (gA r1 650 th (6 : Int32).toNatClampNeg)]) (st := []) C (mc_X5_worthAt hk h7) cv_X5_314 hk rfl (Nat.le_of_ble_eq_true rfl) (Nat.le_of_ble_eq_true rfl) rfl (Nat.le_of_ble_eq_true rfl) dX5_pullOf_48 ?_
    refine r_mask [true, true, false, false, true] (ls' := [some (.ref th), some (.int x1), none, none, none]) rfl ?_
    exact wfX5_pullOf_b51 C hk x1 r6.1 r6.2
  · refine r_aload_n C dX5_pullOf_17 rfl rfl ?_
    refine r_getA C fl_X5_107 hk dX5_pullOf_18 ?_
    refine r_iconst (v := 0) C dX5_pullOf_21 rfl ?_
    refine r_iald C (rg_660 hk) rfl dX5_pullOf_22 fun h8 => ?_
    refine r_aload_n C dX5_pullOf_23 rfl rfl ?_
    refine r_getA C fl_X5_107 hk dX5_pullOf_24 ?_
    refine r_iconst (v := 2) C dX5_pullOf_27 rfl ?_
    refine r_iald C (rg_660 hk) rfl dX5_pullOf_28 fun h9 => ?_
    refine r_iadd C dX5_pullOf_29 ?_
    refine r_aload_n C dX5_pullOf_30 rfl rfl ?_
    refine r_getA C fl_X5_107 hk dX5_pullOf_31 ?_
    refine r_iconst (v := 1) C dX5_pullOf_34 rfl ?_
    refine r_iald C (rg_660 hk) rfl dX5_pullOf_35 fun h10 => ?_
    refine r_isub C dX5_pullOf_36 ?_
    refine r_goto (tgt := 51) C dX5_pullOf_37 (by decide) ?_
    refine r_mask [true, true, false, false, true] (ls' := [some (.ref th), some (.int x1), none, none, none]) rfl ?_
    exact wfX5_pullOf_b51 C hk x1 (((gA r1 660 th (0 : Int32).toNatClampNeg) + (gA r1 660 th (2 : Int32).toNatClampNeg)) - (gA r1 660 th (1 : Int32).toNatClampNeg)) r1
/-! cloth -/
def fX5_cloth (th : Nat) (x1 : Int32) (x2 : Int32) (P : mm_P) : Option (Int32 × mm_P) :=
  mm_lt (sI P 640 th (0 : Int32)) fun P1 =>
  mm_bd (fX5_isCloth th P1 x1) fun r2 =>
  if r2 = 0 then
  (some ((-1 : Int32), P1))
  else
  (mm_bd (fX5_within x2 (0 : Int32) (7 : Int32)) fun r5 =>
  if r5 ≠ 0 then
  (if x2 = (0 : Int32) then
  (mm_bd (fX5_clothOf th P1 x1 (0 : Int32)) fun r9 =>
  some (r9, P1))
  else
  (if x2 = (1 : Int32) then
  (mm_gd (mm_in ((2 : Int32) + x1) 1242) <|
  some (gA P1 662 th ((2 : Int32) + x1).toNatClampNeg, P1))
  else
  (if x2 = (2 : Int32) then
  (mm_gd (mm_in ((8 : Int32) + x1) 1242) <|
  some (gA P1 662 th ((8 : Int32) + x1).toNatClampNeg, P1))
  else
  (if x2 = (3 : Int32) then
  (mm_gd (mm_in ((14 : Int32) + x1) 1242) <|
  some (gA P1 662 th ((14 : Int32) + x1).toNatClampNeg, P1))
  else
  (if x2 = (4 : Int32) then
  (mm_bd (fX5_isLaw th P1 (0 : Int32) x1) fun r18 =>
  if r18 = 0 then
  (some ((0 : Int32), P1))
  else
  (some ((1 : Int32), P1)))
  else
  (if x2 = (5 : Int32) then
  (mm_bd (fX5_isTurned th P1 (0 : Int32) x1) fun r22 =>
  if r22 = 0 then
  (some ((0 : Int32), P1))
  else
  (some ((1 : Int32), P1)))
  else
  (if x2 = (6 : Int32) then
  (mm_bd (fX5_isHung th P1 (0 : Int32) x1) fun r26 =>
  if r26 = 0 then
  (some ((0 : Int32), P1))
  else
  (mm_gd (mm_in ((14 : Int32) + x1) 1242) <|
  mm_bd (fX5_bits (gA P1 662 th ((14 : Int32) + x1).toNatClampNeg)) fun r30 =>
  mm_bd (fX5_roomBy th P1 x1 r30) fun r32 =>
  some (r32, P1)))
  else
  (mm_gd (mm_in ((2 : Int32) + x1) 1242) <|
  mm_gd (mm_in (0 : Int32) 1242) <|
  mm_bd (fX5_windOf th P1 (gA P1 662 th (0 : Int32).toNatClampNeg) (0 : Int32)) fun r36 =>
  mm_bd (fX5_pullOf th x1 (gA P1 662 th ((2 : Int32) + x1).toNatClampNeg) r36 P1) fun r38 =>
  some (r38.1, r38.2)))))))))
  else
  (some ((-1 : Int32), P1)))
set_option maxHeartbeats 4000000 in
theorem mc_X5_cloth {l : Launch} {K : mm_K} {P : mm_P} {th : Nat} {x1 : Int32} {x2 : Int32} {nx sl : Nat} {r : (Int32 × mm_P)} (hk : K.1 th = 5) (h : fX5_cloth th x1 x2 P = some r) : mm_C l yX5_cloth (ws_ yX5_cloth cX5_cloth 3 (some .int)) 3 70 [.ref th, .int x1, .int x2] K P nx sl (mm_wwI K nx sl r) :=
  mm_start (ls := [some (.ref th), some (.int x1), some (.int x2)]) h (by decide) (Nat.le_of_ble_eq_true rfl) rfl (Nat.le_refl _) (Nat.le_refl _) rfl fun E hl9 _ _ _ C => by
  have C : mm_Cx E RX5 cX5_cloth 3 (some .int) 3 70 := C
  unfold fX5_cloth
  refine r_aload_n C dX5_cloth_0 rfl rfl ?_
  refine r_iconst (v := 0) C dX5_cloth_1 rfl ?_
  refine r_putI (code := 640) C fl_X5_1 hk rfl rfl dX5_cloth_2 ?_
  refine r_ltP fun P1 => ?_
  refine r_aload_n C dX5_cloth_5 rfl rfl ?_
  refine r_iload_n C dX5_cloth_6 rfl rfl ?_
  refine r_bd fun r2 h3 => ?_
  refine r_callV (As := [.int x1]) (st := []) C (mc_X5_isCloth hk h3) cv_X5_346 hk rfl (Nat.le_of_ble_eq_true rfl) (Nat.le_of_ble_eq_true rfl) rfl (Nat.le_of_ble_eq_true rfl) dX5_cloth_7 ?_
  refine r_ifeq (tgt := 23) C dX5_cloth_10 (by decide) (fun h4 => ?_) (fun h4 => ?_)
  · refine r_iconst (v := -1) C dX5_cloth_23 rfl ?_
    exact r_iret C dX5_cloth_24 rfl
  · refine r_iload_n C dX5_cloth_13 rfl rfl ?_
    refine r_iconst (v := 0) C dX5_cloth_14 rfl ?_
    refine r_bipush (v := 7) C dX5_cloth_15 rfl ?_
    refine r_bd fun r5 h6 => ?_
    refine r_callS (As := [.int x2, .int (0 : Int32), .int (7 : Int32)]) (st := []) C (mc_X5_within h6) cv_X5_349  rfl (Nat.le_of_ble_eq_true rfl) (Nat.le_of_ble_eq_true rfl) rfl (Nat.le_of_ble_eq_true rfl) dX5_cloth_17 ?_
    refine r_ifne (tgt := 25) C dX5_cloth_20 (by decide) (fun h7 => ?_) (fun h7 => ?_)
    · refine r_iload_n C dX5_cloth_25 rfl rfl ?_
      refine r_if (fun h8 => ?_) (fun h8 => ?_)
      · refine r_tableC (tgt := 68) (off := 42) C dX5_cloth_26 h8 (by decide) (by decide) (by decide) (by decide) ?_
        refine r_aload_n C dX5_cloth_68 rfl rfl ?_
        refine r_iload_n C dX5_cloth_69 rfl rfl ?_
        refine r_iconst (v := 0) C dX5_cloth_70 rfl ?_
        refine r_bd fun r9 h10 => ?_
        refine r_callV (As := [.int x1, .int (0 : Int32)]) (st := []) C (mc_X5_clothOf hk h10) cv_X5_295 hk rfl (Nat.le_of_ble_eq_true rfl) (Nat.le_of_ble_eq_true rfl) rfl (Nat.le_of_ble_eq_true rfl) dX5_cloth_71 ?_
        exact r_iret C dX5_cloth_74 rfl
      refine r_if (fun h11 => ?_) (fun h11 => ?_)
      · refine r_tableC (tgt := 75) (off := 49) C dX5_cloth_26 h11 (by decide) (by decide) (by decide) (by decide) ?_
        refine r_aload_n C dX5_cloth_75 rfl rfl ?_
        refine r_getA C fl_X5_113 hk dX5_cloth_76 ?_
        refine r_iconst (v := 2) C dX5_cloth_79 rfl ?_
        refine r_iload_n C dX5_cloth_80 rfl rfl ?_
        refine r_iadd C dX5_cloth_81 ?_
        refine r_iald C (rg_662 hk) rfl dX5_cloth_82 fun h12 => ?_
        exact r_iret C dX5_cloth_83 rfl
      refine r_if (fun h13 => ?_) (fun h13 => ?_)
      · refine r_tableC (tgt := 84) (off := 58) C dX5_cloth_26 h13 (by decide) (by decide) (by decide) (by decide) ?_
        refine r_aload_n C dX5_cloth_84 rfl rfl ?_
        refine r_getA C fl_X5_113 hk dX5_cloth_85 ?_
        refine r_bipush (v := 8) C dX5_cloth_88 rfl ?_
        refine r_iload_n C dX5_cloth_90 rfl rfl ?_
        refine r_iadd C dX5_cloth_91 ?_
        refine r_iald C (rg_662 hk) rfl dX5_cloth_92 fun h14 => ?_
        exact r_iret C dX5_cloth_93 rfl
      refine r_if (fun h15 => ?_) (fun h15 => ?_)
      · refine r_tableC (tgt := 94) (off := 68) C dX5_cloth_26 h15 (by decide) (by decide) (by decide) (by decide) ?_
        refine r_aload_n C dX5_cloth_94 rfl rfl ?_
        refine r_getA C fl_X5_113 hk dX5_cloth_95 ?_
        refine r_bipush (v := 14) C dX5_cloth_98 rfl ?_
        refine r_iload_n C dX5_cloth_100 rfl rfl ?_
        refine r_iadd C dX5_cloth_101 ?_
        refine r_iald C (rg_662 hk) rfl dX5_cloth_102 fun h16 => ?_
        exact r_iret C dX5_cloth_103 rfl
      refine r_if (fun h17 => ?_) (fun h17 => ?_)
      · refine r_tableC (tgt := 104) (off := 78) C dX5_cloth_26 h17 (by decide) (by decide) (by decide) (by decide) ?_
        refine r_aload_n C dX5_cloth_104 rfl rfl ?_
        refine r_iconst (v := 0) C dX5_cloth_105 rfl ?_
        refine r_iload_n C dX5_cloth_106 rfl rfl ?_
        refine r_bd fun r18 h19 => ?_
        refine r_callV (As := [.int (0 : Int32), .int x1]) (st := []) C (mc_X5_isLaw hk h19) cv_X5_343 hk rfl (Nat.le_of_ble_eq_true rfl) (Nat.le_of_ble_eq_true rfl) rfl (Nat.le_of_ble_eq_true rfl) dX5_cloth_107 ?_
        refine r_ifeq (tgt := 117) C dX5_cloth_110 (by decide) (fun h20 => ?_) (fun h20 => ?_)
        · refine r_iconst (v := 0) C dX5_cloth_117 rfl ?_
          exact r_iret C dX5_cloth_118 rfl
        · refine r_iconst (v := 1) C dX5_cloth_113 rfl ?_
          refine r_goto (tgt := 118) C dX5_cloth_114 (by decide) ?_
          exact r_iret C dX5_cloth_118 rfl
      refine r_if (fun h21 => ?_) (fun h21 => ?_)
      · refine r_tableC (tgt := 119) (off := 93) C dX5_cloth_26 h21 (by decide) (by decide) (by decide) (by decide) ?_
        refine r_aload_n C dX5_cloth_119 rfl rfl ?_
        refine r_iconst (v := 0) C dX5_cloth_120 rfl ?_
        refine r_iload_n C dX5_cloth_121 rfl rfl ?_
        refine r_bd fun r22 h23 => ?_
        refine r_callV (As := [.int (0 : Int32), .int x1]) (st := []) C (mc_X5_isTurned hk h23) cv_X5_352 hk rfl (Nat.le_of_ble_eq_true rfl) (Nat.le_of_ble_eq_true rfl) rfl (Nat.le_of_ble_eq_true rfl) dX5_cloth_122 ?_
        refine r_ifeq (tgt := 132) C dX5_cloth_125 (by decide) (fun h24 => ?_) (fun h24 => ?_)
        · refine r_iconst (v := 0) C dX5_cloth_132 rfl ?_
          exact r_iret C dX5_cloth_133 rfl
        · refine r_iconst (v := 1) C dX5_cloth_128 rfl ?_
          refine r_goto (tgt := 133) C dX5_cloth_129 (by decide) ?_
          exact r_iret C dX5_cloth_133 rfl
      refine r_if (fun h25 => ?_) (fun h25 => ?_)
      · refine r_tableC (tgt := 134) (off := 108) C dX5_cloth_26 h25 (by decide) (by decide) (by decide) (by decide) ?_
        refine r_aload_n C dX5_cloth_134 rfl rfl ?_
        refine r_iconst (v := 0) C dX5_cloth_135 rfl ?_
        refine r_iload_n C dX5_cloth_136 rfl rfl ?_
        refine r_bd fun r26 h27 => ?_
        refine r_callV (As := [.int (0 : Int32), .int x1]) (st := []) C (mc_X5_isHung hk h27) cv_X5_304 hk rfl (Nat.le_of_ble_eq_true rfl) (Nat.le_of_ble_eq_true rfl) rfl (Nat.le_of_ble_eq_true rfl) dX5_cloth_137 ?_
        refine r_ifeq (tgt := 163) C dX5_cloth_140 (by decide) (fun h28 => ?_) (fun h28 => ?_)
        · refine r_iconst (v := 0) C dX5_cloth_163 rfl ?_
          exact r_iret C dX5_cloth_164 rfl
        · refine r_aload_n C dX5_cloth_143 rfl rfl ?_
          refine r_iload_n C dX5_cloth_144 rfl rfl ?_
          refine r_aload_n C dX5_cloth_145 rfl rfl ?_
          refine r_getA C fl_X5_113 hk dX5_cloth_146 ?_
          refine r_bipush (v := 14) C dX5_cloth_149 rfl ?_
          refine r_iload_n C dX5_cloth_151 rfl rfl ?_
          refine r_iadd C dX5_cloth_152 ?_
          refine r_iald C (rg_662 hk) rfl dX5_cloth_153 fun h29 => ?_
          refine r_bd fun r30 h31 => ?_
          refine r_callS (As := [.int (gA P1 662 th ((14 : Int32) + x1).toNatClampNeg)]) (st := [.int x1, .ref th]) C (mc_X5_bits h31) cv_X5_298  rfl (Nat.le_of_ble_eq_true rfl) (Nat.le_of_ble_eq_true rfl) rfl (Nat.le_of_ble_eq_true rfl) dX5_cloth_154 ?_
          refine r_bd fun r32 h33 => ?_
          refine r_callV (As := [.int x1, .int r30]) (st := []) C (mc_X5_roomBy hk h33) cv_X5_308 hk rfl (Nat.le_of_ble_eq_true rfl) (Nat.le_of_ble_eq_true rfl) rfl (Nat.le_of_ble_eq_true rfl) dX5_cloth_157 ?_
          refine r_goto (tgt := 164) C dX5_cloth_160 (by decide) ?_
          exact r_iret C dX5_cloth_164 rfl
      refine r_tableD (tgt := 165) (n := 7) C dX5_cloth_26 (mm_fa h8 (mm_fa h11 (mm_fa h13 (mm_fa h15 (mm_fa h17 (mm_fa h21 (mm_fa h25 (mm_fn)))))))) (by decide +kernel) (by decide) (by decide) ?_
      refine r_aload_n C dX5_cloth_165 rfl rfl ?_
      refine r_iload_n C dX5_cloth_166 rfl rfl ?_
      refine r_aload_n C dX5_cloth_167 rfl rfl ?_
      refine r_getA C fl_X5_113 hk dX5_cloth_168 ?_
      refine r_iconst (v := 2) C dX5_cloth_171 rfl ?_
      refine r_iload_n C dX5_cloth_172 rfl rfl ?_
      refine r_iadd C dX5_cloth_173 ?_
      refine r_iald C (rg_662 hk) rfl dX5_cloth_174 fun h34 => ?_
      refine r_aload_n C dX5_cloth_175 rfl rfl ?_
      refine r_aload_n C dX5_cloth_176 rfl rfl ?_
      refine r_getA C fl_X5_113 hk dX5_cloth_177 ?_
      refine r_iconst (v := 0) C dX5_cloth_180 rfl ?_
      refine r_iald C (rg_662 hk) rfl dX5_cloth_181 fun h35 => ?_
      refine r_iconst (v := 0) C dX5_cloth_182 rfl ?_
      refine r_bd fun r36 h37 => ?_
      refine r_callV (As := [.int (gA P1 662 th (0 : Int32).toNatClampNeg), .int (0 : Int32)]) (st := [.int (gA P1 662 th ((2 : Int32) + x1).toNatClampNeg), .int x1, .ref th]) C (mc_X5_windOf hk h37) cv_X5_332 hk rfl (Nat.le_of_ble_eq_true rfl) (Nat.le_of_ble_eq_true rfl) rfl (Nat.le_of_ble_eq_true rfl) dX5_cloth_183 ?_
      refine r_bd fun r38 h39 => ?_
      refine r_callV (As := [.int x1, .int (gA P1 662 th ((2 : Int32) + x1).toNatClampNeg), .int r36]) (st := []) C (mc_X5_pullOf hk h39) cv_X5_317 hk rfl (Nat.le_of_ble_eq_true rfl) (Nat.le_of_ble_eq_true rfl) rfl (Nat.le_of_ble_eq_true rfl) dX5_cloth_186 ?_
      exact r_iret C dX5_cloth_189 rfl
    · refine r_iconst (v := -1) C dX5_cloth_23 rfl ?_
      exact r_iret C dX5_cloth_24 rfl
/-! heldBy -/
def fX5_heldBy_b5 (th : Nat) (P : mm_P)  : Nat → Int32 → Int32 → Int32 → Int32 → Option Int32
  | 0, _, _, _, _ => none
  | n + 1, x1, x2, x3, x4 =>
  mm_bd (fX5_cloths th P) fun r1 =>
  if r1 ≤ x4 then
  (some (x3))
  else
  (mm_gd (mm_in ((x1 + (14 : Int32)) + x4) 1242) <|
  if ((mm_shr (gA P 662 th ((x1 + (14 : Int32)) + x4).toNatClampNeg) x2) &&& (1 : Int32)) ≠ (1 : Int32) then
  (fX5_heldBy_b5 th P n x1 x2 x3 (x4 + (1 : Int32)))
  else
  (fX5_heldBy_b5 th P n x1 x2 x4 (x4 + (1 : Int32))))
set_option maxHeartbeats 4000000 in
theorem wfX5_heldBy_b5 {E : mm_E} (C : mm_Cx E RX5 cX5_heldBy 5 (some .int) 1 20) {K : mm_K} {th : Nat} (hk : K.1 th = 5) {P : mm_P} {nx sl : Nat} : ∀ (n : Nat), ∀ (x1 : Int32) (x2 : Int32) (x3 : Int32) (x4 : Int32), mm_V E (mm_wrI K P nx sl) 5 [some (.ref th), some (.int x1), some (.int x2), some (.int x3), some (.int x4)] [] K P nx sl (fX5_heldBy_b5 th P n x1 x2 x3 x4) := by
  intro n
  induction n with
  | zero => intro x1 x2 x3 x4; exact r_none
  | succ n ih =>
    intro x1 x2 x3 x4
    rw [fX5_heldBy_b5]
    refine r_iload C dX5_heldBy_5 rfl ?_
    refine r_aload_n C dX5_heldBy_7 rfl rfl ?_
    refine r_bd fun r1 h2 => ?_
    refine r_callV (As := []) (st := [.int x4]) C (mc_X5_cloths hk h2) cv_X5_292 hk rfl (Nat.le_of_ble_eq_true rfl) (Nat.le_of_ble_eq_true rfl) rfl (Nat.le_of_ble_eq_true rfl) dX5_heldBy_8 ?_
    refine r_icmpge (tgt := 47) C dX5_heldBy_11 (by decide) (fun h3 => ?_) (fun h3 => ?_)
    · refine r_iload_n C dX5_heldBy_47 rfl rfl ?_
      exact r_iret C dX5_heldBy_48 rfl
    · refine r_aload_n C dX5_heldBy_14 rfl rfl ?_
      refine r_getA C fl_X5_113 hk dX5_heldBy_15 ?_
      refine r_iload_n C dX5_heldBy_18 rfl rfl ?_
      refine r_bipush (v := 14) C dX5_heldBy_19 rfl ?_
      refine r_iadd C dX5_heldBy_21 ?_
      refine r_iload C dX5_heldBy_22 rfl ?_
      refine r_iadd C dX5_heldBy_24 ?_
      refine r_iald C (rg_662 hk) rfl dX5_heldBy_25 fun h4 => ?_
      refine r_iload_n C dX5_heldBy_26 rfl rfl ?_
      refine r_ishr C dX5_heldBy_27 ?_
      refine r_iconst (v := 1) C dX5_heldBy_28 rfl ?_
      refine r_iand C dX5_heldBy_29 ?_
      refine r_iconst (v := 1) C dX5_heldBy_30 rfl ?_
      refine r_icmpne (tgt := 39) C dX5_heldBy_31 (by decide) (fun h5 => ?_) (fun h5 => ?_)
      · refine r_iload_n C dX5_heldBy_39 rfl rfl ?_
        refine r_istore_n (ls' := [some (.ref th), some (.int x1), some (.int x2), some (.int x3), some (.int x4)]) C dX5_heldBy_40 rfl (Nat.le_of_ble_eq_true rfl) rfl rfl ?_
        refine r_iinc (v := 1) (ls' := [some (.ref th), some (.int x1), some (.int x2), some (.int x3), some (.int (x4 + (1 : Int32)))]) C dX5_heldBy_41 rfl rfl (Nat.le_of_ble_eq_true rfl) rfl rfl ?_
        refine r_goto (tgt := 5) C dX5_heldBy_44 (by decide) ?_
        exact ih x1 x2 x3 (x4 + (1 : Int32))
      · refine r_iload C dX5_heldBy_34 rfl ?_
        refine r_goto (tgt := 40) C dX5_heldBy_36 (by decide) ?_
        refine r_istore_n (ls' := [some (.ref th), some (.int x1), some (.int x2), some (.int x4), some (.int x4)]) C dX5_heldBy_40 rfl (Nat.le_of_ble_eq_true rfl) rfl rfl ?_
        refine r_iinc (v := 1) (ls' := [some (.ref th), some (.int x1), some (.int x2), some (.int x4), some (.int (x4 + (1 : Int32)))]) C dX5_heldBy_41 rfl rfl (Nat.le_of_ble_eq_true rfl) rfl rfl ?_
        refine r_goto (tgt := 5) C dX5_heldBy_44 (by decide) ?_
        exact ih x1 x2 x4 (x4 + (1 : Int32))
def fX5_heldBy (th : Nat) (P : mm_P) (x1 : Int32) (x2 : Int32) : Option Int32 :=
  fX5_heldBy_b5 th P mm_NF x1 x2 (-1 : Int32) (0 : Int32)
set_option maxHeartbeats 4000000 in
theorem mc_X5_heldBy {l : Launch} {K : mm_K} {P : mm_P} {th : Nat} {x1 : Int32} {x2 : Int32} {nx sl : Nat} {r : Int32} (hk : K.1 th = 5) (h : fX5_heldBy th P x1 x2 = some r) : mm_C l yX5_heldBy (ws_ yX5_heldBy cX5_heldBy 5 (some .int)) 1 20 [.ref th, .int x1, .int x2] K P nx sl (mm_wrI K P nx sl r) :=
  mm_start (ls := [some (.ref th), some (.int x1), some (.int x2), none, none]) h (by decide) (Nat.le_of_ble_eq_true rfl) rfl (Nat.le_refl _) (Nat.le_refl _) rfl fun E hl9 _ _ _ C => by
  have C : mm_Cx E RX5 cX5_heldBy 5 (some .int) 1 20 := C
  unfold fX5_heldBy
  refine r_iconst (v := -1) C dX5_heldBy_0 rfl ?_
  refine r_istore_n (ls' := [some (.ref th), some (.int x1), some (.int x2), some (.int (-1 : Int32)), none]) C dX5_heldBy_1 rfl (Nat.le_of_ble_eq_true rfl) rfl rfl ?_
  refine r_iconst (v := 0) C dX5_heldBy_2 rfl ?_
  refine r_istore (ls' := [some (.ref th), some (.int x1), some (.int x2), some (.int (-1 : Int32)), some (.int (0 : Int32))]) C dX5_heldBy_3 (Nat.le_of_ble_eq_true rfl) rfl rfl ?_
  exact wfX5_heldBy_b5 C hk mm_NF x1 x2 (-1 : Int32) (0 : Int32)
/-! peg -/
def fX5_peg (th : Nat) (x1 : Int32) (x2 : Int32) (P : mm_P) : Option (Int32 × mm_P) :=
  mm_lt (sI P 640 th (0 : Int32)) fun P1 =>
  if x1 < 0 then
  (some ((-2 : Int32), P1))
  else
  (mm_gd (mm_in (1 : Int32) 1242) <|
  if (gA P1 662 th (1 : Int32).toNatClampNeg) ≤ x1 then
  (some ((-2 : Int32), P1))
  else
  (mm_bd (fX5_within x2 (0 : Int32) (1 : Int32)) fun r5 =>
  if r5 ≠ 0 then
  (if x2 ≠ 0 then
  (mm_bd (fX5_heldBy th P1 (0 : Int32) x1) fun r9 =>
  some (r9, P1))
  else
  (mm_gd (mm_in ((20 : Int32) + x1) 1242) <|
  some (gA P1 662 th ((20 : Int32) + x1).toNatClampNeg, P1)))
  else
  (some ((-2 : Int32), P1))))
set_option maxHeartbeats 4000000 in
theorem mc_X5_peg {l : Launch} {K : mm_K} {P : mm_P} {th : Nat} {x1 : Int32} {x2 : Int32} {nx sl : Nat} {r : (Int32 × mm_P)} (hk : K.1 th = 5) (h : fX5_peg th x1 x2 P = some r) : mm_C l yX5_peg (ws_ yX5_peg cX5_peg 3 (some .int)) 2 44 [.ref th, .int x1, .int x2] K P nx sl (mm_wwI K nx sl r) :=
  mm_start (ls := [some (.ref th), some (.int x1), some (.int x2)]) h (by decide) (Nat.le_of_ble_eq_true rfl) rfl (Nat.le_refl _) (Nat.le_refl _) rfl fun E hl9 _ _ _ C => by
  have C : mm_Cx E RX5 cX5_peg 3 (some .int) 2 44 := C
  unfold fX5_peg
  refine r_aload_n C dX5_peg_0 rfl rfl ?_
  refine r_iconst (v := 0) C dX5_peg_1 rfl ?_
  refine r_putI (code := 640) C fl_X5_1 hk rfl rfl dX5_peg_2 ?_
  refine r_ltP fun P1 => ?_
  refine r_iload_n C dX5_peg_5 rfl rfl ?_
  refine r_iflt (tgt := 28) C dX5_peg_6 (by decide) (fun h2 => ?_) (fun h2 => ?_)
  · refine r_bipush (v := -2) C dX5_peg_28 rfl ?_
    exact r_iret C dX5_peg_30 rfl
  · refine r_iload_n C dX5_peg_9 rfl rfl ?_
    refine r_aload_n C dX5_peg_10 rfl rfl ?_
    refine r_getA C fl_X5_113 hk dX5_peg_11 ?_
    refine r_iconst (v := 1) C dX5_peg_14 rfl ?_
    refine r_iald C (rg_662 hk) rfl dX5_peg_15 fun h3 => ?_
    refine r_icmpge (tgt := 28) C dX5_peg_16 (by decide) (fun h4 => ?_) (fun h4 => ?_)
    · refine r_bipush (v := -2) C dX5_peg_28 rfl ?_
      exact r_iret C dX5_peg_30 rfl
    · refine r_iload_n C dX5_peg_19 rfl rfl ?_
      refine r_iconst (v := 0) C dX5_peg_20 rfl ?_
      refine r_iconst (v := 1) C dX5_peg_21 rfl ?_
      refine r_bd fun r5 h6 => ?_
      refine r_callS (As := [.int x2, .int (0 : Int32), .int (1 : Int32)]) (st := []) C (mc_X5_within h6) cv_X5_349  rfl (Nat.le_of_ble_eq_true rfl) (Nat.le_of_ble_eq_true rfl) rfl (Nat.le_of_ble_eq_true rfl) dX5_peg_22 ?_
      refine r_ifne (tgt := 31) C dX5_peg_25 (by decide) (fun h7 => ?_) (fun h7 => ?_)
      · refine r_iload_n C dX5_peg_31 rfl rfl ?_
        refine r_ifne (tgt := 47) C dX5_peg_32 (by decide) (fun h8 => ?_) (fun h8 => ?_)
        · refine r_aload_n C dX5_peg_47 rfl rfl ?_
          refine r_iconst (v := 0) C dX5_peg_48 rfl ?_
          refine r_iload_n C dX5_peg_49 rfl rfl ?_
          refine r_bd fun r9 h10 => ?_
          refine r_callV (As := [.int (0 : Int32), .int x1]) (st := []) C (mc_X5_heldBy hk h10) cv_X5_355 hk rfl (Nat.le_of_ble_eq_true rfl) (Nat.le_of_ble_eq_true rfl) rfl (Nat.le_of_ble_eq_true rfl) dX5_peg_50 ?_
          exact r_iret C dX5_peg_53 rfl
        · refine r_aload_n C dX5_peg_35 rfl rfl ?_
          refine r_getA C fl_X5_113 hk dX5_peg_36 ?_
          refine r_bipush (v := 20) C dX5_peg_39 rfl ?_
          refine r_iload_n C dX5_peg_41 rfl rfl ?_
          refine r_iadd C dX5_peg_42 ?_
          refine r_iald C (rg_662 hk) rfl dX5_peg_43 fun h11 => ?_
          refine r_goto (tgt := 53) C dX5_peg_44 (by decide) ?_
          exact r_iret C dX5_peg_53 rfl
      · refine r_bipush (v := -2) C dX5_peg_28 rfl ?_
        exact r_iret C dX5_peg_30 rfl
/-! lawsOf -/
def fX5_lawsOf_b4 (th : Nat) (P : mm_P)  : Nat → Int32 → Int32 → Int32 → Option Int32
  | 0, _, _, _ => none
  | n + 1, x1, x2, x3 =>
  mm_bd (fX5_cloths th P) fun r1 =>
  if r1 ≤ x3 then
  (some (x2))
  else
  (mm_bd (fX5_isLaw th P x1 x3) fun r4 =>
  if r4 = 0 then
  (mm_lt (x2 ||| (0 : Int32)) fun v7 =>
  fX5_lawsOf_b4 th P n x1 v7 (x3 + (1 : Int32)))
  else
  (mm_lt (x2 ||| (mm_shl (1 : Int32) x3)) fun v8 =>
  fX5_lawsOf_b4 th P n x1 v8 (x3 + (1 : Int32))))
set_option maxHeartbeats 4000000 in
theorem wfX5_lawsOf_b4 {E : mm_E} (C : mm_Cx E RX5 cX5_lawsOf 4 (some .int) 3 65) {K : mm_K} {th : Nat} (hk : K.1 th = 5) {P : mm_P} {nx sl : Nat} : ∀ (n : Nat), ∀ (x1 : Int32) (x2 : Int32) (x3 : Int32), mm_V E (mm_wrI K P nx sl) 4 [some (.ref th), some (.int x1), some (.int x2), some (.int x3)] [] K P nx sl (fX5_lawsOf_b4 th P n x1 x2 x3) := by
  intro n
  induction n with
  | zero => intro x1 x2 x3; exact r_none
  | succ n ih =>
    intro x1 x2 x3
    rw [fX5_lawsOf_b4]
    refine r_iload_n C dX5_lawsOf_4 rfl rfl ?_
    refine r_aload_n C dX5_lawsOf_5 rfl rfl ?_
    refine r_bd fun r1 h2 => ?_
    refine r_callV (As := []) (st := [.int x3]) C (mc_X5_cloths hk h2) cv_X5_292 hk rfl (Nat.le_of_ble_eq_true rfl) (Nat.le_of_ble_eq_true rfl) rfl (Nat.le_of_ble_eq_true rfl) dX5_lawsOf_6 ?_
    refine r_icmpge (tgt := 37) C dX5_lawsOf_9 (by decide) (fun h3 => ?_) (fun h3 => ?_)
    · refine r_iload_n C dX5_lawsOf_37 rfl rfl ?_
      exact r_iret C dX5_lawsOf_38 rfl
    · refine r_iload_n C dX5_lawsOf_12 rfl rfl ?_
      refine r_aload_n C dX5_lawsOf_13 rfl rfl ?_
      refine r_iload_n C dX5_lawsOf_14 rfl rfl ?_
      refine r_iload_n C dX5_lawsOf_15 rfl rfl ?_
      refine r_bd fun r4 h5 => ?_
      refine r_callV (As := [.int x1, .int x3]) (st := [.int x2]) C (mc_X5_isLaw hk h5) cv_X5_343 hk rfl (Nat.le_of_ble_eq_true rfl) (Nat.le_of_ble_eq_true rfl) rfl (Nat.le_of_ble_eq_true rfl) dX5_lawsOf_16 ?_
      refine r_ifeq (tgt := 28) C dX5_lawsOf_19 (by decide) (fun h6 => ?_) (fun h6 => ?_)
      · refine r_iconst (v := 0) C dX5_lawsOf_28 rfl ?_
        refine r_ior C dX5_lawsOf_29 ?_
        refine r_ltI fun v7 => ?_
        refine r_istore_n (ls' := [some (.ref th), some (.int x1), some (.int v7), some (.int x3)]) C dX5_lawsOf_30 rfl (Nat.le_of_ble_eq_true rfl) rfl rfl ?_
        refine r_iinc (v := 1) (ls' := [some (.ref th), some (.int x1), some (.int v7), some (.int (x3 + (1 : Int32)))]) C dX5_lawsOf_31 rfl rfl (Nat.le_of_ble_eq_true rfl) rfl rfl ?_
        refine r_goto (tgt := 4) C dX5_lawsOf_34 (by decide) ?_
        exact ih x1 v7 (x3 + (1 : Int32))
      · refine r_iconst (v := 1) C dX5_lawsOf_22 rfl ?_
        refine r_iload_n C dX5_lawsOf_23 rfl rfl ?_
        refine r_ishl C dX5_lawsOf_24 ?_
        refine r_goto (tgt := 29) C dX5_lawsOf_25 (by decide) ?_
        refine r_ior C dX5_lawsOf_29 ?_
        refine r_ltI fun v8 => ?_
        refine r_istore_n (ls' := [some (.ref th), some (.int x1), some (.int v8), some (.int x3)]) C dX5_lawsOf_30 rfl (Nat.le_of_ble_eq_true rfl) rfl rfl ?_
        refine r_iinc (v := 1) (ls' := [some (.ref th), some (.int x1), some (.int v8), some (.int (x3 + (1 : Int32)))]) C dX5_lawsOf_31 rfl rfl (Nat.le_of_ble_eq_true rfl) rfl rfl ?_
        refine r_goto (tgt := 4) C dX5_lawsOf_34 (by decide) ?_
        exact ih x1 v8 (x3 + (1 : Int32))
def fX5_lawsOf (th : Nat) (P : mm_P) (x1 : Int32) : Option Int32 :=
  fX5_lawsOf_b4 th P mm_NF x1 (0 : Int32) (0 : Int32)
set_option maxHeartbeats 4000000 in
theorem mc_X5_lawsOf {l : Launch} {K : mm_K} {P : mm_P} {th : Nat} {x1 : Int32} {nx sl : Nat} {r : Int32} (hk : K.1 th = 5) (h : fX5_lawsOf th P x1 = some r) : mm_C l yX5_lawsOf (ws_ yX5_lawsOf cX5_lawsOf 4 (some .int)) 3 65 [.ref th, .int x1] K P nx sl (mm_wrI K P nx sl r) :=
  mm_start (ls := [some (.ref th), some (.int x1), none, none]) h (by decide) (Nat.le_of_ble_eq_true rfl) rfl (Nat.le_refl _) (Nat.le_refl _) rfl fun E hl9 _ _ _ C => by
  have C : mm_Cx E RX5 cX5_lawsOf 4 (some .int) 3 65 := C
  unfold fX5_lawsOf
  refine r_iconst (v := 0) C dX5_lawsOf_0 rfl ?_
  refine r_istore_n (ls' := [some (.ref th), some (.int x1), some (.int (0 : Int32)), none]) C dX5_lawsOf_1 rfl (Nat.le_of_ble_eq_true rfl) rfl rfl ?_
  refine r_iconst (v := 0) C dX5_lawsOf_2 rfl ?_
  refine r_istore_n (ls' := [some (.ref th), some (.int x1), some (.int (0 : Int32)), some (.int (0 : Int32))]) C dX5_lawsOf_3 rfl (Nat.le_of_ble_eq_true rfl) rfl rfl ?_
  exact wfX5_lawsOf_b4 C hk mm_NF x1 (0 : Int32) (0 : Int32)
/-! laws -/
def fX5_laws (th : Nat)  (P : mm_P) : Option (Int32 × mm_P) :=
  mm_lt (sI P 640 th (0 : Int32)) fun P1 =>
  mm_bd (fX5_lawsOf th P1 (0 : Int32)) fun r2 =>
  some (r2, P1)
set_option maxHeartbeats 4000000 in
theorem mc_X5_laws {l : Launch} {K : mm_K} {P : mm_P} {th : Nat}  {nx sl : Nat} {r : (Int32 × mm_P)} (hk : K.1 th = 5) (h : fX5_laws th P = some r) : mm_C l yX5_laws (ws_ yX5_laws cX5_laws 1 (some .int)) 4 88 [.ref th] K P nx sl (mm_wwI K nx sl r) :=
  mm_start (ls := [some (.ref th)]) h (by decide) (Nat.le_of_ble_eq_true rfl) rfl (Nat.le_refl _) (Nat.le_refl _) rfl fun E hl9 _ _ _ C => by
  have C : mm_Cx E RX5 cX5_laws 1 (some .int) 4 88 := C
  unfold fX5_laws
  refine r_aload_n C dX5_laws_0 rfl rfl ?_
  refine r_iconst (v := 0) C dX5_laws_1 rfl ?_
  refine r_putI (code := 640) C fl_X5_1 hk rfl rfl dX5_laws_2 ?_
  refine r_ltP fun P1 => ?_
  refine r_aload_n C dX5_laws_5 rfl rfl ?_
  refine r_iconst (v := 0) C dX5_laws_6 rfl ?_
  refine r_bd fun r2 h3 => ?_
  refine r_callV (As := [.int (0 : Int32)]) (st := []) C (mc_X5_lawsOf hk h3) cv_X5_358 hk rfl (Nat.le_of_ble_eq_true rfl) (Nat.le_of_ble_eq_true rfl) rfl (Nat.le_of_ble_eq_true rfl) dX5_laws_7 ?_
  exact r_iret C dX5_laws_10 rfl
/-! freePegs -/
def fX5_freePegs_b4 (th : Nat) (P : mm_P)  : Nat → Int32 → Int32 → Int32 → Option Int32
  | 0, _, _, _ => none
  | n + 1, x1, x2, x3 =>
  mm_gd (mm_in (x1 + (1 : Int32)) 1242) <|
  if (gA P 662 th (x1 + (1 : Int32)).toNatClampNeg) ≤ x3 then
  (some (x2))
  else
  (mm_gd (mm_in ((x1 + (20 : Int32)) + x3) 1242) <|
  if (gA P 662 th ((x1 + (20 : Int32)) + x3).toNatClampNeg) ≤ 0 then
  (mm_lt (x2 ||| (0 : Int32)) fun v5 =>
  fX5_freePegs_b4 th P n x1 v5 (x3 + (1 : Int32)))
  else
  (mm_bd (fX5_heldBy th P x1 x3) fun r6 =>
  if 0 ≤ r6 then
  (mm_lt (x2 ||| (0 : Int32)) fun v9 =>
  fX5_freePegs_b4 th P n x1 v9 (x3 + (1 : Int32)))
  else
  (mm_lt (x2 ||| (mm_shl (1 : Int32) x3)) fun v10 =>
  fX5_freePegs_b4 th P n x1 v10 (x3 + (1 : Int32)))))
set_option maxHeartbeats 4000000 in
theorem wfX5_freePegs_b4 {E : mm_E} (C : mm_Cx E RX5 cX5_freePegs 4 (some .int) 2 44) {K : mm_K} {th : Nat} (hk : K.1 th = 5) {P : mm_P} {nx sl : Nat} : ∀ (n : Nat), ∀ (x1 : Int32) (x2 : Int32) (x3 : Int32), mm_V E (mm_wrI K P nx sl) 4 [some (.ref th), some (.int x1), some (.int x2), some (.int x3)] [] K P nx sl (fX5_freePegs_b4 th P n x1 x2 x3) := by
  intro n
  induction n with
  | zero => intro x1 x2 x3; exact r_none
  | succ n ih =>
    intro x1 x2 x3
    rw [fX5_freePegs_b4]
    refine r_iload_n C dX5_freePegs_4 rfl rfl ?_
    refine r_aload_n C dX5_freePegs_5 rfl rfl ?_
    refine r_getA C fl_X5_113 hk dX5_freePegs_6 ?_
    refine r_iload_n C dX5_freePegs_9 rfl rfl ?_
    refine r_iconst (v := 1) C dX5_freePegs_10 rfl ?_
    refine r_iadd C dX5_freePegs_11 ?_
    refine r_iald C (rg_662 hk) rfl dX5_freePegs_12 fun h1 => ?_
    refine r_icmpge (tgt := 55) C dX5_freePegs_13 (by decide) (fun h2 => ?_) (fun h2 => ?_)
    · refine r_iload_n C dX5_freePegs_55 rfl rfl ?_
      exact r_iret C dX5_freePegs_56 rfl
    · refine r_iload_n C dX5_freePegs_16 rfl rfl ?_
      refine r_aload_n C dX5_freePegs_17 rfl rfl ?_
      refine r_getA C fl_X5_113 hk dX5_freePegs_18 ?_
      refine r_iload_n C dX5_freePegs_21 rfl rfl ?_
      refine r_bipush (v := 20) C dX5_freePegs_22 rfl ?_
      refine r_iadd C dX5_freePegs_24 ?_
      refine r_iload_n C dX5_freePegs_25 rfl rfl ?_
      refine r_iadd C dX5_freePegs_26 ?_
      refine r_iald C (rg_662 hk) rfl dX5_freePegs_27 fun h3 => ?_
      refine r_ifle (tgt := 46) C dX5_freePegs_28 (by decide) (fun h4 => ?_) (fun h4 => ?_)
      · refine r_iconst (v := 0) C dX5_freePegs_46 rfl ?_
        refine r_ior C dX5_freePegs_47 ?_
        refine r_ltI fun v5 => ?_
        refine r_istore_n (ls' := [some (.ref th), some (.int x1), some (.int v5), some (.int x3)]) C dX5_freePegs_48 rfl (Nat.le_of_ble_eq_true rfl) rfl rfl ?_
        refine r_iinc (v := 1) (ls' := [some (.ref th), some (.int x1), some (.int v5), some (.int (x3 + (1 : Int32)))]) C dX5_freePegs_49 rfl rfl (Nat.le_of_ble_eq_true rfl) rfl rfl ?_
        refine r_goto (tgt := 4) C dX5_freePegs_52 (by decide) ?_
        exact ih x1 v5 (x3 + (1 : Int32))
      · refine r_aload_n C dX5_freePegs_31 rfl rfl ?_
        refine r_iload_n C dX5_freePegs_32 rfl rfl ?_
        refine r_iload_n C dX5_freePegs_33 rfl rfl ?_
        refine r_bd fun r6 h7 => ?_
        refine r_callV (As := [.int x1, .int x3]) (st := [.int x2]) C (mc_X5_heldBy hk h7) cv_X5_355 hk rfl (Nat.le_of_ble_eq_true rfl) (Nat.le_of_ble_eq_true rfl) rfl (Nat.le_of_ble_eq_true rfl) dX5_freePegs_34 ?_
        refine r_ifge (tgt := 46) C dX5_freePegs_37 (by decide) (fun h8 => ?_) (fun h8 => ?_)
        · refine r_iconst (v := 0) C dX5_freePegs_46 rfl ?_
          refine r_ior C dX5_freePegs_47 ?_
          refine r_ltI fun v9 => ?_
          refine r_istore_n (ls' := [some (.ref th), some (.int x1), some (.int v9), some (.int x3)]) C dX5_freePegs_48 rfl (Nat.le_of_ble_eq_true rfl) rfl rfl ?_
          refine r_iinc (v := 1) (ls' := [some (.ref th), some (.int x1), some (.int v9), some (.int (x3 + (1 : Int32)))]) C dX5_freePegs_49 rfl rfl (Nat.le_of_ble_eq_true rfl) rfl rfl ?_
          refine r_goto (tgt := 4) C dX5_freePegs_52 (by decide) ?_
          exact ih x1 v9 (x3 + (1 : Int32))
        · refine r_iconst (v := 1) C dX5_freePegs_40 rfl ?_
          refine r_iload_n C dX5_freePegs_41 rfl rfl ?_
          refine r_ishl C dX5_freePegs_42 ?_
          refine r_goto (tgt := 47) C dX5_freePegs_43 (by decide) ?_
          refine r_ior C dX5_freePegs_47 ?_
          refine r_ltI fun v10 => ?_
          refine r_istore_n (ls' := [some (.ref th), some (.int x1), some (.int v10), some (.int x3)]) C dX5_freePegs_48 rfl (Nat.le_of_ble_eq_true rfl) rfl rfl ?_
          refine r_iinc (v := 1) (ls' := [some (.ref th), some (.int x1), some (.int v10), some (.int (x3 + (1 : Int32)))]) C dX5_freePegs_49 rfl rfl (Nat.le_of_ble_eq_true rfl) rfl rfl ?_
          refine r_goto (tgt := 4) C dX5_freePegs_52 (by decide) ?_
          exact ih x1 v10 (x3 + (1 : Int32))
def fX5_freePegs (th : Nat) (P : mm_P) (x1 : Int32) : Option Int32 :=
  fX5_freePegs_b4 th P mm_NF x1 (0 : Int32) (0 : Int32)
set_option maxHeartbeats 4000000 in
theorem mc_X5_freePegs {l : Launch} {K : mm_K} {P : mm_P} {th : Nat} {x1 : Int32} {nx sl : Nat} {r : Int32} (hk : K.1 th = 5) (h : fX5_freePegs th P x1 = some r) : mm_C l yX5_freePegs (ws_ yX5_freePegs cX5_freePegs 4 (some .int)) 2 44 [.ref th, .int x1] K P nx sl (mm_wrI K P nx sl r) :=
  mm_start (ls := [some (.ref th), some (.int x1), none, none]) h (by decide) (Nat.le_of_ble_eq_true rfl) rfl (Nat.le_refl _) (Nat.le_refl _) rfl fun E hl9 _ _ _ C => by
  have C : mm_Cx E RX5 cX5_freePegs 4 (some .int) 2 44 := C
  unfold fX5_freePegs
  refine r_iconst (v := 0) C dX5_freePegs_0 rfl ?_
  refine r_istore_n (ls' := [some (.ref th), some (.int x1), some (.int (0 : Int32)), none]) C dX5_freePegs_1 rfl (Nat.le_of_ble_eq_true rfl) rfl rfl ?_
  refine r_iconst (v := 0) C dX5_freePegs_2 rfl ?_
  refine r_istore_n (ls' := [some (.ref th), some (.int x1), some (.int (0 : Int32)), some (.int (0 : Int32))]) C dX5_freePegs_3 rfl (Nat.le_of_ble_eq_true rfl) rfl rfl ?_
  exact wfX5_freePegs_b4 C hk mm_NF x1 (0 : Int32) (0 : Int32)
/-! free -/
def fX5_free (th : Nat)  (P : mm_P) : Option (Int32 × mm_P) :=
  mm_lt (sI P 640 th (0 : Int32)) fun P1 =>
  mm_bd (fX5_freePegs th P1 (0 : Int32)) fun r2 =>
  some (r2, P1)
set_option maxHeartbeats 4000000 in
theorem mc_X5_free {l : Launch} {K : mm_K} {P : mm_P} {th : Nat}  {nx sl : Nat} {r : (Int32 × mm_P)} (hk : K.1 th = 5) (h : fX5_free th P = some r) : mm_C l yX5_free (ws_ yX5_free cX5_free 1 (some .int)) 3 67 [.ref th] K P nx sl (mm_wwI K nx sl r) :=
  mm_start (ls := [some (.ref th)]) h (by decide) (Nat.le_of_ble_eq_true rfl) rfl (Nat.le_refl _) (Nat.le_refl _) rfl fun E hl9 _ _ _ C => by
  have C : mm_Cx E RX5 cX5_free 1 (some .int) 3 67 := C
  unfold fX5_free
  refine r_aload_n C dX5_free_0 rfl rfl ?_
  refine r_iconst (v := 0) C dX5_free_1 rfl ?_
  refine r_putI (code := 640) C fl_X5_1 hk rfl rfl dX5_free_2 ?_
  refine r_ltP fun P1 => ?_
  refine r_aload_n C dX5_free_5 rfl rfl ?_
  refine r_iconst (v := 0) C dX5_free_6 rfl ?_
  refine r_bd fun r2 h3 => ?_
  refine r_callV (As := [.int (0 : Int32)]) (st := []) C (mc_X5_freePegs hk h3) cv_X5_361 hk rfl (Nat.le_of_ble_eq_true rfl) (Nat.le_of_ble_eq_true rfl) rfl (Nat.le_of_ble_eq_true rfl) dX5_free_7 ?_
  exact r_iret C dX5_free_10 rfl
/-! roomLeft -/
def fX5_roomLeft_b9 (th : Nat) (P : mm_P)  : Nat → Int32 → Int32 → Int32 → Option Int32
  | 0, _, _, _ => none
  | n + 1, x1, x2, x3 =>
  mm_bd (fX5_cloths th P) fun r1 =>
  if r1 ≤ x3 then
  (some (x2))
  else
  (mm_bd (fX5_isHung th P x1 x3) fun r4 =>
  if r4 = 0 then
  (mm_lt (x2 - (0 : Int32)) fun v7 =>
  fX5_roomLeft_b9 th P n x1 v7 (x3 + (1 : Int32)))
  else
  (mm_gd (mm_in ((x1 + (14 : Int32)) + x3) 1242) <|
  mm_bd (fX5_bits (gA P 662 th ((x1 + (14 : Int32)) + x3).toNatClampNeg)) fun r9 =>
  mm_bd (fX5_roomBy th P x3 r9) fun r11 =>
  mm_lt (x2 - r11) fun v13 =>
  fX5_roomLeft_b9 th P n x1 v13 (x3 + (1 : Int32))))
set_option maxHeartbeats 4000000 in
theorem wfX5_roomLeft_b9 {E : mm_E} (C : mm_Cx E RX5 cX5_roomLeft 4 (some .int) 2 44) {K : mm_K} {th : Nat} (hk : K.1 th = 5) {P : mm_P} {nx sl : Nat} : ∀ (n : Nat), ∀ (x1 : Int32) (x2 : Int32) (x3 : Int32), mm_V E (mm_wrI K P nx sl) 9 [some (.ref th), some (.int x1), some (.int x2), some (.int x3)] [] K P nx sl (fX5_roomLeft_b9 th P n x1 x2 x3) := by
  intro n
  induction n with
  | zero => intro x1 x2 x3; exact r_none
  | succ n ih =>
    intro x1 x2 x3
    rw [fX5_roomLeft_b9]
    refine r_iload_n C dX5_roomLeft_9 rfl rfl ?_
    refine r_aload_n C dX5_roomLeft_10 rfl rfl ?_
    refine r_bd fun r1 h2 => ?_
    refine r_callV (As := []) (st := [.int x3]) C (mc_X5_cloths hk h2) cv_X5_292 hk rfl (Nat.le_of_ble_eq_true rfl) (Nat.le_of_ble_eq_true rfl) rfl (Nat.le_of_ble_eq_true rfl) dX5_roomLeft_11 ?_
    refine r_icmpge (tgt := 58) C dX5_roomLeft_14 (by decide) (fun h3 => ?_) (fun h3 => ?_)
    · refine r_iload_n C dX5_roomLeft_58 rfl rfl ?_
      exact r_iret C dX5_roomLeft_59 rfl
    · refine r_iload_n C dX5_roomLeft_17 rfl rfl ?_
      refine r_aload_n C dX5_roomLeft_18 rfl rfl ?_
      refine r_iload_n C dX5_roomLeft_19 rfl rfl ?_
      refine r_iload_n C dX5_roomLeft_20 rfl rfl ?_
      refine r_bd fun r4 h5 => ?_
      refine r_callV (As := [.int x1, .int x3]) (st := [.int x2]) C (mc_X5_isHung hk h5) cv_X5_304 hk rfl (Nat.le_of_ble_eq_true rfl) (Nat.le_of_ble_eq_true rfl) rfl (Nat.le_of_ble_eq_true rfl) dX5_roomLeft_21 ?_
      refine r_ifeq (tgt := 49) C dX5_roomLeft_24 (by decide) (fun h6 => ?_) (fun h6 => ?_)
      · refine r_iconst (v := 0) C dX5_roomLeft_49 rfl ?_
        refine r_isub C dX5_roomLeft_50 ?_
        refine r_ltI fun v7 => ?_
        refine r_istore_n (ls' := [some (.ref th), some (.int x1), some (.int v7), some (.int x3)]) C dX5_roomLeft_51 rfl (Nat.le_of_ble_eq_true rfl) rfl rfl ?_
        refine r_iinc (v := 1) (ls' := [some (.ref th), some (.int x1), some (.int v7), some (.int (x3 + (1 : Int32)))]) C dX5_roomLeft_52 rfl rfl (Nat.le_of_ble_eq_true rfl) rfl rfl ?_
        refine r_goto (tgt := 9) C dX5_roomLeft_55 (by decide) ?_
        exact ih x1 v7 (x3 + (1 : Int32))
      · refine r_aload_n C dX5_roomLeft_27 rfl rfl ?_
        refine r_iload_n C dX5_roomLeft_28 rfl rfl ?_
        refine r_aload_n C dX5_roomLeft_29 rfl rfl ?_
        refine r_getA C fl_X5_113 hk dX5_roomLeft_30 ?_
        refine r_iload_n C dX5_roomLeft_33 rfl rfl ?_
        refine r_bipush (v := 14) C dX5_roomLeft_34 rfl ?_
        refine r_iadd C dX5_roomLeft_36 ?_
        refine r_iload_n C dX5_roomLeft_37 rfl rfl ?_
        refine r_iadd C dX5_roomLeft_38 ?_
        refine r_iald C (rg_662 hk) rfl dX5_roomLeft_39 fun h8 => ?_
        refine r_bd fun r9 h10 => ?_
        refine r_callS (As := [.int (gA P 662 th ((x1 + (14 : Int32)) + x3).toNatClampNeg)]) (st := [.int x3, .ref th, .int x2]) C (mc_X5_bits h10) cv_X5_298  rfl (Nat.le_of_ble_eq_true rfl) (Nat.le_of_ble_eq_true rfl) rfl (Nat.le_of_ble_eq_true rfl) dX5_roomLeft_40 ?_
        refine r_bd fun r11 h12 => ?_
        refine r_callV (As := [.int x3, .int r9]) (st := [.int x2]) C (mc_X5_roomBy hk h12) cv_X5_308 hk rfl (Nat.le_of_ble_eq_true rfl) (Nat.le_of_ble_eq_true rfl) rfl (Nat.le_of_ble_eq_true rfl) dX5_roomLeft_43 ?_
        refine r_goto (tgt := 50) C dX5_roomLeft_46 (by decide) ?_
        refine r_isub C dX5_roomLeft_50 ?_
        refine r_ltI fun v13 => ?_
        refine r_istore_n (ls' := [some (.ref th), some (.int x1), some (.int v13), some (.int x3)]) C dX5_roomLeft_51 rfl (Nat.le_of_ble_eq_true rfl) rfl rfl ?_
        refine r_iinc (v := 1) (ls' := [some (.ref th), some (.int x1), some (.int v13), some (.int (x3 + (1 : Int32)))]) C dX5_roomLeft_52 rfl rfl (Nat.le_of_ble_eq_true rfl) rfl rfl ?_
        refine r_goto (tgt := 9) C dX5_roomLeft_55 (by decide) ?_
        exact ih x1 v13 (x3 + (1 : Int32))
def fX5_roomLeft (th : Nat) (P : mm_P) (x1 : Int32) : Option Int32 :=
  mm_gd (mm_in (3 : Int32) 200) <|
  mm_lt (gA P 650 th (3 : Int32).toNatClampNeg) fun v2 =>
  fX5_roomLeft_b9 th P mm_NF x1 v2 (0 : Int32)
set_option maxHeartbeats 4000000 in
theorem mc_X5_roomLeft {l : Launch} {K : mm_K} {P : mm_P} {th : Nat} {x1 : Int32} {nx sl : Nat} {r : Int32} (hk : K.1 th = 5) (h : fX5_roomLeft th P x1 = some r) : mm_C l yX5_roomLeft (ws_ yX5_roomLeft cX5_roomLeft 4 (some .int)) 2 44 [.ref th, .int x1] K P nx sl (mm_wrI K P nx sl r) :=
  mm_start (ls := [some (.ref th), some (.int x1), none, none]) h (by decide) (Nat.le_of_ble_eq_true rfl) rfl (Nat.le_refl _) (Nat.le_refl _) rfl fun E hl9 _ _ _ C => by
  have C : mm_Cx E RX5 cX5_roomLeft 4 (some .int) 2 44 := C
  unfold fX5_roomLeft
  refine r_aload_n C dX5_roomLeft_0 rfl rfl ?_
  refine r_getA C fl_X5_89 hk dX5_roomLeft_1 ?_
  refine r_iconst (v := 3) C dX5_roomLeft_4 rfl ?_
  refine r_iald C (rg_650 hk) rfl dX5_roomLeft_5 fun h1 => ?_
  refine r_ltI fun v2 => ?_
  refine r_istore_n (ls' := [some (.ref th), some (.int x1), some (.int v2), none]) C dX5_roomLeft_6 rfl (Nat.le_of_ble_eq_true rfl) rfl rfl ?_
  refine r_iconst (v := 0) C dX5_roomLeft_7 rfl ?_
  refine r_istore_n (ls' := [some (.ref th), some (.int x1), some (.int v2), some (.int (0 : Int32))]) C dX5_roomLeft_8 rfl (Nat.le_of_ble_eq_true rfl) rfl rfl ?_
  exact wfX5_roomLeft_b9 C hk mm_NF x1 v2 (0 : Int32)
/-! mayHang -/
def fX5_mayHang_b48 (th : Nat) (P : mm_P)  (x1 : Int32) (x2 : Int32) (x4 : Int32) (s0 : Int32) : Option Int32 :=
  if s0 = 0 then
  (some ((0 : Int32)))
  else
  (mm_bd (fX5_roomBy th P x2 x4) fun r2 =>
  mm_bd (fX5_roomLeft th P x1) fun r4 =>
  if r4 < r2 then
  (some ((0 : Int32)))
  else
  (some ((1 : Int32))))
set_option maxHeartbeats 4000000 in
theorem wfX5_mayHang_b48 {E : mm_E} (C : mm_Cx E RX5 cX5_mayHang 6 (some .boolean) 3 67) {K : mm_K} {th : Nat} (hk : K.1 th = 5) {P : mm_P} {nx sl : Nat} (x1 : Int32) (x2 : Int32) (x4 : Int32) (s0 : Int32) : mm_V E (mm_wrI K P nx sl) 48 [some (.ref th), some (.int x1), some (.int x2), none, some (.int x4), none] [.int s0] K P nx sl (fX5_mayHang_b48 th P x1 x2 x4 s0) := by
  unfold fX5_mayHang_b48
  refine r_istore (ls' := [some (.ref th), some (.int x1), some (.int x2), none, some (.int x4), some (.int s0)]) C dX5_mayHang_48 (Nat.le_of_ble_eq_true rfl) rfl rfl ?_
  refine r_iload C dX5_mayHang_50 rfl ?_
  refine r_ifeq (tgt := 74) C dX5_mayHang_52 (by decide) (fun h1 => ?_) (fun h1 => ?_)
  · refine r_iconst (v := 0) C dX5_mayHang_74 rfl ?_
    exact r_zret C dX5_mayHang_75 rfl rfl
  · refine r_aload_n C dX5_mayHang_55 rfl rfl ?_
    refine r_iload_n C dX5_mayHang_56 rfl rfl ?_
    refine r_iload C dX5_mayHang_57 rfl ?_
    refine r_bd fun r2 h3 => ?_
    refine r_callV (As := [.int x2, .int x4]) (st := []) C (mc_X5_roomBy hk h3) cv_X5_308 hk rfl (Nat.le_of_ble_eq_true rfl) (Nat.le_of_ble_eq_true rfl) rfl (Nat.le_of_ble_eq_true rfl) dX5_mayHang_59 ?_
    refine r_aload_n C dX5_mayHang_62 rfl rfl ?_
    refine r_iload_n C dX5_mayHang_63 rfl rfl ?_
    refine r_bd fun r4 h5 => ?_
    refine r_callV (As := [.int x1]) (st := [.int r2]) C (mc_X5_roomLeft hk h5) cv_X5_364 hk rfl (Nat.le_of_ble_eq_true rfl) (Nat.le_of_ble_eq_true rfl) rfl (Nat.le_of_ble_eq_true rfl) dX5_mayHang_64 ?_
    refine r_icmpgt (tgt := 74) C dX5_mayHang_67 (by decide) (fun h6 => ?_) (fun h6 => ?_)
    · refine r_iconst (v := 0) C dX5_mayHang_74 rfl ?_
      exact r_zret C dX5_mayHang_75 rfl rfl
    · refine r_iconst (v := 1) C dX5_mayHang_70 rfl ?_
      refine r_goto (tgt := 75) C dX5_mayHang_71 (by decide) ?_
      exact r_zret C dX5_mayHang_75 rfl rfl
def fX5_mayHang_b47 (th : Nat) (P : mm_P)  (x1 : Int32) (x2 : Int32) (x4 : Int32) : Option Int32 :=
  fX5_mayHang_b48 th P x1 x2 x4 (0 : Int32)
set_option maxHeartbeats 4000000 in
theorem wfX5_mayHang_b47 {E : mm_E} (C : mm_Cx E RX5 cX5_mayHang 6 (some .boolean) 3 67) {K : mm_K} {th : Nat} (hk : K.1 th = 5) {P : mm_P} {nx sl : Nat} (x1 : Int32) (x2 : Int32) (x4 : Int32) : mm_V E (mm_wrI K P nx sl) 47 [some (.ref th), some (.int x1), some (.int x2), none, some (.int x4), none] [] K P nx sl (fX5_mayHang_b47 th P x1 x2 x4) := by
  unfold fX5_mayHang_b47
  refine r_iconst (v := 0) C dX5_mayHang_47 rfl ?_
  exact wfX5_mayHang_b48 C hk x1 x2 x4 (0 : Int32)
def fX5_mayHang_b43 (th : Nat) (P : mm_P)  (x1 : Int32) (x2 : Int32) (x4 : Int32) : Option Int32 :=
  fX5_mayHang_b48 th P x1 x2 x4 (1 : Int32)
set_option maxHeartbeats 4000000 in
theorem wfX5_mayHang_b43 {E : mm_E} (C : mm_Cx E RX5 cX5_mayHang 6 (some .boolean) 3 67) {K : mm_K} {th : Nat} (hk : K.1 th = 5) {P : mm_P} {nx sl : Nat} (x1 : Int32) (x2 : Int32) (x4 : Int32) : mm_V E (mm_wrI K P nx sl) 43 [some (.ref th), some (.int x1), some (.int x2), none, some (.int x4), none] [] K P nx sl (fX5_mayHang_b43 th P x1 x2 x4) := by
  unfold fX5_mayHang_b43
  refine r_iconst (v := 1) C dX5_mayHang_43 rfl ?_
  refine r_goto (tgt := 48) C dX5_mayHang_44 (by decide) ?_
  exact wfX5_mayHang_b48 C hk x1 x2 x4 (1 : Int32)
def fX5_mayHang (th : Nat) (P : mm_P) (x1 : Int32) (x2 : Int32) (x3 : Int32) : Option Int32 :=
  mm_bd (fX5_bits x3) fun r1 =>
  mm_bd (fX5_isHung th P x1 x2) fun r3 =>
  if r3 ≠ 0 then
  (fX5_mayHang_b47 th P x1 x2 r1)
  else
  (mm_bd (fX5_freePegs th P x1) fun r6 =>
  if (x3 &&& (r6 ^^^ (-1 : Int32))) ≠ 0 then
  (fX5_mayHang_b47 th P x1 x2 r1)
  else
  (mm_bd (fX5_needs th P x2) fun r9 =>
  if r1 = r9 then
  (fX5_mayHang_b43 th P x1 x2 r1)
  else
  (if r1 ≠ (1 : Int32) then
  (fX5_mayHang_b47 th P x1 x2 r1)
  else
  (fX5_mayHang_b43 th P x1 x2 r1))))
set_option maxHeartbeats 4000000 in
theorem mc_X5_mayHang {l : Launch} {K : mm_K} {P : mm_P} {th : Nat} {x1 : Int32} {x2 : Int32} {x3 : Int32} {nx sl : Nat} {r : Int32} (hk : K.1 th = 5) (h : fX5_mayHang th P x1 x2 x3 = some r) : mm_C l yX5_mayHang (ws_ yX5_mayHang cX5_mayHang 6 (some .boolean)) 3 67 [.ref th, .int x1, .int x2, .int x3] K P nx sl (mm_wrI K P nx sl r) :=
  mm_start (ls := [some (.ref th), some (.int x1), some (.int x2), some (.int x3), none, none]) h (by decide) (Nat.le_of_ble_eq_true rfl) rfl (Nat.le_refl _) (Nat.le_refl _) rfl fun E hl9 _ _ _ C => by
  have C : mm_Cx E RX5 cX5_mayHang 6 (some .boolean) 3 67 := C
  unfold fX5_mayHang
  refine r_iload_n C dX5_mayHang_0 rfl rfl ?_
  refine r_bd fun r1 h2 => ?_
  refine r_callS (As := [.int x3]) (st := []) C (mc_X5_bits h2) cv_X5_298  rfl (Nat.le_of_ble_eq_true rfl) (Nat.le_of_ble_eq_true rfl) rfl (Nat.le_of_ble_eq_true rfl) dX5_mayHang_1 ?_
  refine r_istore (ls' := [some (.ref th), some (.int x1), some (.int x2), some (.int x3), some (.int r1), none]) C dX5_mayHang_4 (Nat.le_of_ble_eq_true rfl) rfl rfl ?_
  refine r_aload_n C dX5_mayHang_6 rfl rfl ?_
  refine r_iload_n C dX5_mayHang_7 rfl rfl ?_
  refine r_iload_n C dX5_mayHang_8 rfl rfl ?_
  refine r_bd fun r3 h4 => ?_
  refine r_callV (As := [.int x1, .int x2]) (st := []) C (mc_X5_isHung hk h4) cv_X5_304 hk rfl (Nat.le_of_ble_eq_true rfl) (Nat.le_of_ble_eq_true rfl) rfl (Nat.le_of_ble_eq_true rfl) dX5_mayHang_9 ?_
  refine r_ifne (tgt := 47) C dX5_mayHang_12 (by decide) (fun h5 => ?_) (fun h5 => ?_)
  · refine r_mask [true, true, true, false, true, true] (ls' := [some (.ref th), some (.int x1), some (.int x2), none, some (.int r1), none]) rfl ?_
    exact wfX5_mayHang_b47 C hk x1 x2 r1
  · refine r_iload_n C dX5_mayHang_15 rfl rfl ?_
    refine r_aload_n C dX5_mayHang_16 rfl rfl ?_
    refine r_iload_n C dX5_mayHang_17 rfl rfl ?_
    refine r_bd fun r6 h7 => ?_
    refine r_callV (As := [.int x1]) (st := [.int x3]) C (mc_X5_freePegs hk h7) cv_X5_361 hk rfl (Nat.le_of_ble_eq_true rfl) (Nat.le_of_ble_eq_true rfl) rfl (Nat.le_of_ble_eq_true rfl) dX5_mayHang_18 ?_
    refine r_iconst (v := -1) C dX5_mayHang_21 rfl ?_
    refine r_ixor C dX5_mayHang_22 ?_
    refine r_iand C dX5_mayHang_23 ?_
    refine r_ifne (tgt := 47) C dX5_mayHang_24 (by decide) (fun h8 => ?_) (fun h8 => ?_)
    · refine r_mask [true, true, true, false, true, true] (ls' := [some (.ref th), some (.int x1), some (.int x2), none, some (.int r1), none]) rfl ?_
      exact wfX5_mayHang_b47 C hk x1 x2 r1
    · refine r_iload C dX5_mayHang_27 rfl ?_
      refine r_aload_n C dX5_mayHang_29 rfl rfl ?_
      refine r_iload_n C dX5_mayHang_30 rfl rfl ?_
      refine r_bd fun r9 h10 => ?_
      refine r_callV (As := [.int x2]) (st := [.int r1]) C (mc_X5_needs hk h10) cv_X5_301 hk rfl (Nat.le_of_ble_eq_true rfl) (Nat.le_of_ble_eq_true rfl) rfl (Nat.le_of_ble_eq_true rfl) dX5_mayHang_31 ?_
      refine r_icmpeq (tgt := 43) C dX5_mayHang_34 (by decide) (fun h11 => ?_) (fun h11 => ?_)
      · refine r_mask [true, true, true, false, true, true] (ls' := [some (.ref th), some (.int x1), some (.int x2), none, some (.int r1), none]) rfl ?_
        exact wfX5_mayHang_b43 C hk x1 x2 r1
      · refine r_iload C dX5_mayHang_37 rfl ?_
        refine r_iconst (v := 1) C dX5_mayHang_39 rfl ?_
        refine r_icmpne (tgt := 47) C dX5_mayHang_40 (by decide) (fun h12 => ?_) (fun h12 => ?_)
        · refine r_mask [true, true, true, false, true, true] (ls' := [some (.ref th), some (.int x1), some (.int x2), none, some (.int r1), none]) rfl ?_
          exact wfX5_mayHang_b47 C hk x1 x2 r1
        · refine r_mask [true, true, true, false, true, true] (ls' := [some (.ref th), some (.int x1), some (.int x2), none, some (.int r1), none]) rfl ?_
          exact wfX5_mayHang_b43 C hk x1 x2 r1
/-! copies -/
def fX5_copies_b3 (th : Nat)  : Nat → Int32 → Int32 → Int32 → Int32 → mm_P → Option mm_P
  | 0, _, _, _, _, _ => none
  | n + 1, x1, x2, x3, x4, P =>
  if x3 ≤ x4 then
  (some P)
  else
  (mm_gd (mm_in (x1 + x4) 1242) <|
  mm_gd (mm_in (x2 + x4) 1242) <|
  mm_lt (sA P 662 th (x2 + x4).toNatClampNeg (gA P 662 th (x1 + x4).toNatClampNeg)) fun P4 =>
  fX5_copies_b3 th n x1 x2 x3 (x4 + (1 : Int32)) P4)
set_option maxHeartbeats 4000000 in
theorem wfX5_copies_b3 {E : mm_E} (C : mm_Cx E RX5 cX5_copies 5 none 0 0) {K : mm_K} {th : Nat} (hk : K.1 th = 5) {nx sl : Nat} : ∀ (n : Nat), ∀ (x1 : Int32) (x2 : Int32) (x3 : Int32) (x4 : Int32) (P : mm_P), mm_V E (mm_wwV K nx sl) 3 [some (.ref th), some (.int x1), some (.int x2), some (.int x3), some (.int x4)] [] K P nx sl (fX5_copies_b3 th n x1 x2 x3 x4 P) := by
  intro n
  induction n with
  | zero => intro x1 x2 x3 x4 P; exact r_none
  | succ n ih =>
    intro x1 x2 x3 x4 P
    rw [fX5_copies_b3]
    refine r_iload C dX5_copies_3 rfl ?_
    refine r_iload_n C dX5_copies_5 rfl rfl ?_
    refine r_icmpge (tgt := 33) C dX5_copies_6 (by decide) (fun h1 => ?_) (fun h1 => ?_)
    · exact r_vret C dX5_copies_33 rfl
    · refine r_aload_n C dX5_copies_9 rfl rfl ?_
      refine r_getA C fl_X5_113 hk dX5_copies_10 ?_
      refine r_iload_n C dX5_copies_13 rfl rfl ?_
      refine r_iload C dX5_copies_14 rfl ?_
      refine r_iadd C dX5_copies_16 ?_
      refine r_aload_n C dX5_copies_17 rfl rfl ?_
      refine r_getA C fl_X5_113 hk dX5_copies_18 ?_
      refine r_iload_n C dX5_copies_21 rfl rfl ?_
      refine r_iload C dX5_copies_22 rfl ?_
      refine r_iadd C dX5_copies_24 ?_
      refine r_iald C (rg_662 hk) rfl dX5_copies_25 fun h2 => ?_
      refine r_iast C (rg_662 hk) (mm_ro_of (k := 5) hk rfl) rfl dX5_copies_26 fun h3 => ?_
      refine r_ltP fun P4 => ?_
      refine r_iinc (v := 1) (ls' := [some (.ref th), some (.int x1), some (.int x2), some (.int x3), some (.int (x4 + (1 : Int32)))]) C dX5_copies_27 rfl rfl (Nat.le_of_ble_eq_true rfl) rfl rfl ?_
      refine r_goto (tgt := 3) C dX5_copies_30 (by decide) ?_
      exact ih x1 x2 x3 (x4 + (1 : Int32)) P4
def fX5_copies (th : Nat) (x1 : Int32) (x2 : Int32) (x3 : Int32) (P : mm_P) : Option mm_P :=
  fX5_copies_b3 th mm_NF x1 x2 x3 (0 : Int32) P
set_option maxHeartbeats 4000000 in
theorem mc_X5_copies {l : Launch} {K : mm_K} {P : mm_P} {th : Nat} {x1 : Int32} {x2 : Int32} {x3 : Int32} {nx sl : Nat} {r : mm_P} (hk : K.1 th = 5) (h : fX5_copies th x1 x2 x3 P = some r) : mm_C l yX5_copies (ws_ yX5_copies cX5_copies 5 none) 0 0 [.ref th, .int x1, .int x2, .int x3] K P nx sl (mm_wwV K nx sl r) :=
  mm_start (ls := [some (.ref th), some (.int x1), some (.int x2), some (.int x3), none]) h (by decide) (Nat.le_of_ble_eq_true rfl) rfl (Nat.le_refl _) (Nat.le_refl _) rfl fun E hl9 _ _ _ C => by
  have C : mm_Cx E RX5 cX5_copies 5 none 0 0 := C
  unfold fX5_copies
  refine r_iconst (v := 0) C dX5_copies_0 rfl ?_
  refine r_istore (ls' := [some (.ref th), some (.int x1), some (.int x2), some (.int x3), some (.int (0 : Int32))]) C dX5_copies_1 (Nat.le_of_ble_eq_true rfl) rfl rfl ?_
  exact wfX5_copies_b3 C hk mm_NF x1 x2 x3 (0 : Int32) P
/-! keeps -/
def fX5_keeps_b53 (th : Nat)  (P : mm_P) : Option mm_P :=
  mm_bd (fX5_copies th (0 : Int32) ((54 : Int32) * ((5 : Int32) + (gI P 663 th))) (28 : Int32) P) fun r1 =>
  mm_lt (sI r1 663 th ((gI r1 663 th) + (1 : Int32))) fun P3 =>
  some P3
set_option maxHeartbeats 4000000 in
theorem wfX5_keeps_b53 {E : mm_E} (C : mm_Cx E RX5 cX5_keeps 2 none 1 24) {K : mm_K} {th : Nat} (hk : K.1 th = 5) {nx sl : Nat} (P : mm_P) : mm_V E (mm_wwV K nx sl) 53 [some (.ref th), none] [] K P nx sl (fX5_keeps_b53 th P) := by
  unfold fX5_keeps_b53
  refine r_aload_n C dX5_keeps_53 rfl rfl ?_
  refine r_iconst (v := 0) C dX5_keeps_54 rfl ?_
  refine r_bipush (v := 54) C dX5_keeps_55 rfl ?_
  refine r_iconst (v := 5) C dX5_keeps_57 rfl ?_
  refine r_aload_n C dX5_keeps_58 rfl rfl ?_
  refine r_getI (code := 663) C fl_X5_285 hk rfl dX5_keeps_59 ?_
  refine r_iadd C dX5_keeps_62 ?_
  refine r_imul C dX5_keeps_63 ?_
  refine r_bipush (v := 28) C dX5_keeps_64 rfl ?_
  refine r_bd fun r1 h2 => ?_
  refine r_callVv (As := [.int (0 : Int32), .int ((54 : Int32) * ((5 : Int32) + (gI P 663 th))), .int (28 : Int32)]) (st := []) C (mc_X5_copies hk h2) cv_X5_288 hk rfl (Nat.le_of_ble_eq_true rfl) (Nat.le_of_ble_eq_true rfl) rfl (Nat.le_of_ble_eq_true rfl) dX5_keeps_66 ?_
  refine r_aload_n C dX5_keeps_69 rfl rfl ?_
  refine r_dup C dX5_keeps_70 rfl ?_
  refine r_getI (code := 663) C fl_X5_285 hk rfl dX5_keeps_71 ?_
  refine r_iconst (v := 1) C dX5_keeps_74 rfl ?_
  refine r_iadd C dX5_keeps_75 ?_
  refine r_putI (code := 663) C fl_X5_285 hk rfl rfl dX5_keeps_76 ?_
  refine r_ltP fun P3 => ?_
  exact r_vret C dX5_keeps_79 rfl
def fX5_keeps_b11 (th : Nat)  : Nat → Int32 → mm_P → Option mm_P
  | 0, _, _ => none
  | n + 1, x1, P =>
  if (16 : Int32) ≤ x1 then
  (mm_lt (sI P 663 th ((gI P 663 th) - (1 : Int32))) fun P2 =>
  fX5_keeps_b53 th P2)
  else
  (mm_bd (fX5_copies th ((54 : Int32) * ((5 : Int32) + x1)) ((54 : Int32) * (((5 : Int32) + x1) - (1 : Int32))) (28 : Int32) P) fun r3 =>
  fX5_keeps_b11 th n (x1 + (1 : Int32)) r3)
set_option maxHeartbeats 4000000 in
theorem wfX5_keeps_b11 {E : mm_E} (C : mm_Cx E RX5 cX5_keeps 2 none 1 24) {K : mm_K} {th : Nat} (hk : K.1 th = 5) {nx sl : Nat} : ∀ (n : Nat), ∀ (x1 : Int32) (P : mm_P), mm_V E (mm_wwV K nx sl) 11 [some (.ref th), some (.int x1)] [] K P nx sl (fX5_keeps_b11 th n x1 P) := by
  intro n
  induction n with
  | zero => intro x1 P; exact r_none
  | succ n ih =>
    intro x1 P
    rw [fX5_keeps_b11]
    refine r_iload_n C dX5_keeps_11 rfl rfl ?_
    refine r_bipush (v := 16) C dX5_keeps_12 rfl ?_
    refine r_icmpge (tgt := 43) C dX5_keeps_14 (by decide) (fun h1 => ?_) (fun h1 => ?_)
    · refine r_aload_n C dX5_keeps_43 rfl rfl ?_
      refine r_dup C dX5_keeps_44 rfl ?_
      refine r_getI (code := 663) C fl_X5_285 hk rfl dX5_keeps_45 ?_
      refine r_iconst (v := 1) C dX5_keeps_48 rfl ?_
      refine r_isub C dX5_keeps_49 ?_
      refine r_putI (code := 663) C fl_X5_285 hk rfl rfl dX5_keeps_50 ?_
      refine r_ltP fun P2 => ?_
      refine r_mask [true, false] (ls' := [some (.ref th), none]) rfl ?_
      exact wfX5_keeps_b53 C hk P2
    · refine r_aload_n C dX5_keeps_17 rfl rfl ?_
      refine r_bipush (v := 54) C dX5_keeps_18 rfl ?_
      refine r_iconst (v := 5) C dX5_keeps_20 rfl ?_
      refine r_iload_n C dX5_keeps_21 rfl rfl ?_
      refine r_iadd C dX5_keeps_22 ?_
      refine r_imul C dX5_keeps_23 ?_
      refine r_bipush (v := 54) C dX5_keeps_24 rfl ?_
      refine r_iconst (v := 5) C dX5_keeps_26 rfl ?_
      refine r_iload_n C dX5_keeps_27 rfl rfl ?_
      refine r_iadd C dX5_keeps_28 ?_
      refine r_iconst (v := 1) C dX5_keeps_29 rfl ?_
      refine r_isub C dX5_keeps_30 ?_
      refine r_imul C dX5_keeps_31 ?_
      refine r_bipush (v := 28) C dX5_keeps_32 rfl ?_
      refine r_bd fun r3 h4 => ?_
      refine r_callVv (As := [.int ((54 : Int32) * ((5 : Int32) + x1)), .int ((54 : Int32) * (((5 : Int32) + x1) - (1 : Int32))), .int (28 : Int32)]) (st := []) C (mc_X5_copies hk h4) cv_X5_288 hk rfl (Nat.le_of_ble_eq_true rfl) (Nat.le_of_ble_eq_true rfl) rfl (Nat.le_of_ble_eq_true rfl) dX5_keeps_34 ?_
      refine r_iinc (v := 1) (ls' := [some (.ref th), some (.int (x1 + (1 : Int32)))]) C dX5_keeps_37 rfl rfl (Nat.le_of_ble_eq_true rfl) rfl rfl ?_
      refine r_goto (tgt := 11) C dX5_keeps_40 (by decide) ?_
      exact ih (x1 + (1 : Int32)) r3
def fX5_keeps (th : Nat)  (P : mm_P) : Option mm_P :=
  if (gI P 663 th) ≠ (16 : Int32) then
  (fX5_keeps_b53 th P)
  else
  (fX5_keeps_b11 th mm_NF (1 : Int32) P)
set_option maxHeartbeats 4000000 in
theorem mc_X5_keeps {l : Launch} {K : mm_K} {P : mm_P} {th : Nat}  {nx sl : Nat} {r : mm_P} (hk : K.1 th = 5) (h : fX5_keeps th P = some r) : mm_C l yX5_keeps (ws_ yX5_keeps cX5_keeps 2 none) 1 24 [.ref th] K P nx sl (mm_wwV K nx sl r) :=
  mm_start (ls := [some (.ref th), none]) h (by decide) (Nat.le_of_ble_eq_true rfl) rfl (Nat.le_refl _) (Nat.le_refl _) rfl fun E hl9 _ _ _ C => by
  have C : mm_Cx E RX5 cX5_keeps 2 none 1 24 := C
  unfold fX5_keeps
  refine r_aload_n C dX5_keeps_0 rfl rfl ?_
  refine r_getI (code := 663) C fl_X5_285 hk rfl dX5_keeps_1 ?_
  refine r_bipush (v := 16) C dX5_keeps_4 rfl ?_
  refine r_icmpne (tgt := 53) C dX5_keeps_6 (by decide) (fun h1 => ?_) (fun h1 => ?_)
  · exact wfX5_keeps_b53 C hk P
  · refine r_iconst (v := 1) C dX5_keeps_9 rfl ?_
    refine r_istore_n (ls' := [some (.ref th), some (.int (1 : Int32))]) C dX5_keeps_10 rfl (Nat.le_of_ble_eq_true rfl) rfl rfl ?_
    exact wfX5_keeps_b11 C hk mm_NF (1 : Int32) P
/-! hang -/
def fX5_hang (th : Nat) (x1 : Int32) (x2 : Int32) (P : mm_P) : Option (Int32 × mm_P) :=
  mm_lt (sI P 640 th (0 : Int32)) fun P1 =>
  mm_bd (fX5_isCloth th P1 x1) fun r2 =>
  if r2 = 0 then
  (some ((-1 : Int32), P1))
  else
  (mm_bd (fX5_within x2 (1 : Int32) (255 : Int32)) fun r5 =>
  if r5 = 0 then
  (some ((-1 : Int32), P1))
  else
  (mm_bd (fX5_mayHang th P1 (0 : Int32) x1 x2) fun r8 =>
  if r8 ≠ 0 then
  (mm_bd (fX5_keeps th P1) fun r11 =>
  mm_gd (mm_in ((14 : Int32) + x1) 1242) <|
  mm_lt (sA r11 662 th ((14 : Int32) + x1).toNatClampNeg x2) fun P14 =>
  mm_bd (fX5_roomLeft th P14 (0 : Int32)) fun r15 =>
  some (r15, P14))
  else
  (some ((-1 : Int32), P1))))
set_option maxHeartbeats 4000000 in
theorem mc_X5_hang {l : Launch} {K : mm_K} {P : mm_P} {th : Nat} {x1 : Int32} {x2 : Int32} {nx sl : Nat} {r : (Int32 × mm_P)} (hk : K.1 th = 5) (h : fX5_hang th x1 x2 P = some r) : mm_C l yX5_hang (ws_ yX5_hang cX5_hang 3 (some .int)) 4 92 [.ref th, .int x1, .int x2] K P nx sl (mm_wwI K nx sl r) :=
  mm_start (ls := [some (.ref th), some (.int x1), some (.int x2)]) h (by decide) (Nat.le_of_ble_eq_true rfl) rfl (Nat.le_refl _) (Nat.le_refl _) rfl fun E hl9 _ _ _ C => by
  have C : mm_Cx E RX5 cX5_hang 3 (some .int) 4 92 := C
  unfold fX5_hang
  refine r_aload_n C dX5_hang_0 rfl rfl ?_
  refine r_iconst (v := 0) C dX5_hang_1 rfl ?_
  refine r_putI (code := 640) C fl_X5_1 hk rfl rfl dX5_hang_2 ?_
  refine r_ltP fun P1 => ?_
  refine r_aload_n C dX5_hang_5 rfl rfl ?_
  refine r_iload_n C dX5_hang_6 rfl rfl ?_
  refine r_bd fun r2 h3 => ?_
  refine r_callV (As := [.int x1]) (st := []) C (mc_X5_isCloth hk h3) cv_X5_346 hk rfl (Nat.le_of_ble_eq_true rfl) (Nat.le_of_ble_eq_true rfl) rfl (Nat.le_of_ble_eq_true rfl) dX5_hang_7 ?_
  refine r_ifeq (tgt := 34) C dX5_hang_10 (by decide) (fun h4 => ?_) (fun h4 => ?_)
  · refine r_iconst (v := -1) C dX5_hang_34 rfl ?_
    exact r_iret C dX5_hang_35 rfl
  · refine r_iload_n C dX5_hang_13 rfl rfl ?_
    refine r_iconst (v := 1) C dX5_hang_14 rfl ?_
    refine r_sipush (v := 255) C dX5_hang_15 rfl ?_
    refine r_bd fun r5 h6 => ?_
    refine r_callS (As := [.int x2, .int (1 : Int32), .int (255 : Int32)]) (st := []) C (mc_X5_within h6) cv_X5_349  rfl (Nat.le_of_ble_eq_true rfl) (Nat.le_of_ble_eq_true rfl) rfl (Nat.le_of_ble_eq_true rfl) dX5_hang_18 ?_
    refine r_ifeq (tgt := 34) C dX5_hang_21 (by decide) (fun h7 => ?_) (fun h7 => ?_)
    · refine r_iconst (v := -1) C dX5_hang_34 rfl ?_
      exact r_iret C dX5_hang_35 rfl
    · refine r_aload_n C dX5_hang_24 rfl rfl ?_
      refine r_iconst (v := 0) C dX5_hang_25 rfl ?_
      refine r_iload_n C dX5_hang_26 rfl rfl ?_
      refine r_iload_n C dX5_hang_27 rfl rfl ?_
      refine r_bd fun r8 h9 => ?_
      refine r_callV (As := [.int (0 : Int32), .int x1, .int x2]) (st := []) C (mc_X5_mayHang hk h9) cv_X5_367 hk rfl (Nat.le_of_ble_eq_true rfl) (Nat.le_of_ble_eq_true rfl) rfl (Nat.le_of_ble_eq_true rfl) dX5_hang_28 ?_
      refine r_ifne (tgt := 36) C dX5_hang_31 (by decide) (fun h10 => ?_) (fun h10 => ?_)
      · refine r_aload_n C dX5_hang_36 rfl rfl ?_
        refine r_bd fun r11 h12 => ?_
        refine r_callVv (As := []) (st := []) C (mc_X5_keeps hk h12) cv_X5_370 hk rfl (Nat.le_of_ble_eq_true rfl) (Nat.le_of_ble_eq_true rfl) rfl (Nat.le_of_ble_eq_true rfl) dX5_hang_37 ?_
        refine r_aload_n C dX5_hang_40 rfl rfl ?_
        refine r_getA C fl_X5_113 hk dX5_hang_41 ?_
        refine r_bipush (v := 14) C dX5_hang_44 rfl ?_
        refine r_iload_n C dX5_hang_46 rfl rfl ?_
        refine r_iadd C dX5_hang_47 ?_
        refine r_iload_n C dX5_hang_48 rfl rfl ?_
        refine r_iast C (rg_662 hk) (mm_ro_of (k := 5) hk rfl) rfl dX5_hang_49 fun h13 => ?_
        refine r_ltP fun P14 => ?_
        refine r_aload_n C dX5_hang_50 rfl rfl ?_
        refine r_iconst (v := 0) C dX5_hang_51 rfl ?_
        refine r_bd fun r15 h16 => ?_
        refine r_callV (As := [.int (0 : Int32)]) (st := []) C (mc_X5_roomLeft hk h16) cv_X5_364 hk rfl (Nat.le_of_ble_eq_true rfl) (Nat.le_of_ble_eq_true rfl) rfl (Nat.le_of_ble_eq_true rfl) dX5_hang_52 ?_
        exact r_iret C dX5_hang_55 rfl
      · refine r_iconst (v := -1) C dX5_hang_34 rfl ?_
        exact r_iret C dX5_hang_35 rfl
/-! take -/
def fX5_take (th : Nat) (x1 : Int32) (P : mm_P) : Option (Int32 × mm_P) :=
  mm_lt (sI P 640 th (0 : Int32)) fun P1 =>
  mm_bd (fX5_isCloth th P1 x1) fun r2 =>
  if r2 = 0 then
  (some ((0 : Int32), P1))
  else
  (mm_bd (fX5_isHung th P1 (0 : Int32) x1) fun r5 =>
  if r5 ≠ 0 then
  (mm_bd (fX5_keeps th P1) fun r8 =>
  mm_gd (mm_in ((14 : Int32) + x1) 1242) <|
  mm_lt (sA r8 662 th ((14 : Int32) + x1).toNatClampNeg (0 : Int32)) fun P11 =>
  some ((1 : Int32), P11))
  else
  (some ((0 : Int32), P1)))
set_option maxHeartbeats 4000000 in
theorem mc_X5_take {l : Launch} {K : mm_K} {P : mm_P} {th : Nat} {x1 : Int32} {nx sl : Nat} {r : (Int32 × mm_P)} (hk : K.1 th = 5) (h : fX5_take th x1 P = some r) : mm_C l yX5_take (ws_ yX5_take cX5_take 2 (some .boolean)) 2 45 [.ref th, .int x1] K P nx sl (mm_wwI K nx sl r) :=
  mm_start (ls := [some (.ref th), some (.int x1)]) h (by decide) (Nat.le_of_ble_eq_true rfl) rfl (Nat.le_refl _) (Nat.le_refl _) rfl fun E hl9 _ _ _ C => by
  have C : mm_Cx E RX5 cX5_take 2 (some .boolean) 2 45 := C
  unfold fX5_take
  refine r_aload_n C dX5_take_0 rfl rfl ?_
  refine r_iconst (v := 0) C dX5_take_1 rfl ?_
  refine r_putI (code := 640) C fl_X5_1 hk rfl rfl dX5_take_2 ?_
  refine r_ltP fun P1 => ?_
  refine r_aload_n C dX5_take_5 rfl rfl ?_
  refine r_iload_n C dX5_take_6 rfl rfl ?_
  refine r_bd fun r2 h3 => ?_
  refine r_callV (As := [.int x1]) (st := []) C (mc_X5_isCloth hk h3) cv_X5_346 hk rfl (Nat.le_of_ble_eq_true rfl) (Nat.le_of_ble_eq_true rfl) rfl (Nat.le_of_ble_eq_true rfl) dX5_take_7 ?_
  refine r_ifeq (tgt := 22) C dX5_take_10 (by decide) (fun h4 => ?_) (fun h4 => ?_)
  · refine r_iconst (v := 0) C dX5_take_22 rfl ?_
    exact r_zret C dX5_take_23 rfl rfl
  · refine r_aload_n C dX5_take_13 rfl rfl ?_
    refine r_iconst (v := 0) C dX5_take_14 rfl ?_
    refine r_iload_n C dX5_take_15 rfl rfl ?_
    refine r_bd fun r5 h6 => ?_
    refine r_callV (As := [.int (0 : Int32), .int x1]) (st := []) C (mc_X5_isHung hk h6) cv_X5_304 hk rfl (Nat.le_of_ble_eq_true rfl) (Nat.le_of_ble_eq_true rfl) rfl (Nat.le_of_ble_eq_true rfl) dX5_take_16 ?_
    refine r_ifne (tgt := 24) C dX5_take_19 (by decide) (fun h7 => ?_) (fun h7 => ?_)
    · refine r_aload_n C dX5_take_24 rfl rfl ?_
      refine r_bd fun r8 h9 => ?_
      refine r_callVv (As := []) (st := []) C (mc_X5_keeps hk h9) cv_X5_370 hk rfl (Nat.le_of_ble_eq_true rfl) (Nat.le_of_ble_eq_true rfl) rfl (Nat.le_of_ble_eq_true rfl) dX5_take_25 ?_
      refine r_aload_n C dX5_take_28 rfl rfl ?_
      refine r_getA C fl_X5_113 hk dX5_take_29 ?_
      refine r_bipush (v := 14) C dX5_take_32 rfl ?_
      refine r_iload_n C dX5_take_34 rfl rfl ?_
      refine r_iadd C dX5_take_35 ?_
      refine r_iconst (v := 0) C dX5_take_36 rfl ?_
      refine r_iast C (rg_662 hk) (mm_ro_of (k := 5) hk rfl) rfl dX5_take_37 fun h10 => ?_
      refine r_ltP fun P11 => ?_
      refine r_iconst (v := 1) C dX5_take_38 rfl ?_
      exact r_zret C dX5_take_39 rfl rfl
    · refine r_iconst (v := 0) C dX5_take_22 rfl ?_
      exact r_zret C dX5_take_23 rfl rfl
/-! washes -/
def fX5_washes (th : Nat) (x1 : Int32) (x2 : Int32) (P : mm_P) : Option (Int32 × mm_P) :=
  mm_gd (mm_in ((x1 + (8 : Int32)) + x2) 1242) <|
  mm_lt (gA P 662 th ((x1 + (8 : Int32)) + x2).toNatClampNeg) fun v2 =>
  mm_gd (mm_in ((x1 + (8 : Int32)) + x2) 1242) <|
  mm_lt (sA P 662 th ((x1 + (8 : Int32)) + x2).toNatClampNeg (0 : Int32)) fun P4 =>
  mm_gd (mm_in ((x1 + (2 : Int32)) + x2) 1242) <|
  mm_lt (sA P4 662 th ((x1 + (2 : Int32)) + x2).toNatClampNeg (9 : Int32)) fun P6 =>
  some (v2, P6)
set_option maxHeartbeats 4000000 in
theorem mc_X5_washes {l : Launch} {K : mm_K} {P : mm_P} {th : Nat} {x1 : Int32} {x2 : Int32} {nx sl : Nat} {r : (Int32 × mm_P)} (hk : K.1 th = 5) (h : fX5_washes th x1 x2 P = some r) : mm_C l yX5_washes (ws_ yX5_washes cX5_washes 4 (some .int)) 0 0 [.ref th, .int x1, .int x2] K P nx sl (mm_wwI K nx sl r) :=
  mm_start (ls := [some (.ref th), some (.int x1), some (.int x2), none]) h (by decide) (Nat.le_of_ble_eq_true rfl) rfl (Nat.le_refl _) (Nat.le_refl _) rfl fun E hl9 _ _ _ C => by
  have C : mm_Cx E RX5 cX5_washes 4 (some .int) 0 0 := C
  unfold fX5_washes
  refine r_aload_n C dX5_washes_0 rfl rfl ?_
  refine r_getA C fl_X5_113 hk dX5_washes_1 ?_
  refine r_iload_n C dX5_washes_4 rfl rfl ?_
  refine r_bipush (v := 8) C dX5_washes_5 rfl ?_
  refine r_iadd C dX5_washes_7 ?_
  refine r_iload_n C dX5_washes_8 rfl rfl ?_
  refine r_iadd C dX5_washes_9 ?_
  refine r_iald C (rg_662 hk) rfl dX5_washes_10 fun h1 => ?_
  refine r_ltI fun v2 => ?_
  refine r_istore_n (ls' := [some (.ref th), some (.int x1), some (.int x2), some (.int v2)]) C dX5_washes_11 rfl (Nat.le_of_ble_eq_true rfl) rfl rfl ?_
  refine r_aload_n C dX5_washes_12 rfl rfl ?_
  refine r_getA C fl_X5_113 hk dX5_washes_13 ?_
  refine r_iload_n C dX5_washes_16 rfl rfl ?_
  refine r_bipush (v := 8) C dX5_washes_17 rfl ?_
  refine r_iadd C dX5_washes_19 ?_
  refine r_iload_n C dX5_washes_20 rfl rfl ?_
  refine r_iadd C dX5_washes_21 ?_
  refine r_iconst (v := 0) C dX5_washes_22 rfl ?_
  refine r_iast C (rg_662 hk) (mm_ro_of (k := 5) hk rfl) rfl dX5_washes_23 fun h3 => ?_
  refine r_ltP fun P4 => ?_
  refine r_aload_n C dX5_washes_24 rfl rfl ?_
  refine r_getA C fl_X5_113 hk dX5_washes_25 ?_
  refine r_iload_n C dX5_washes_28 rfl rfl ?_
  refine r_iconst (v := 2) C dX5_washes_29 rfl ?_
  refine r_iadd C dX5_washes_30 ?_
  refine r_iload_n C dX5_washes_31 rfl rfl ?_
  refine r_iadd C dX5_washes_32 ?_
  refine r_bipush (v := 9) C dX5_washes_33 rfl ?_
  refine r_iast C (rg_662 hk) (mm_ro_of (k := 5) hk rfl) rfl dX5_washes_35 fun h5 => ?_
  refine r_ltP fun P6 => ?_
  refine r_iload_n C dX5_washes_36 rfl rfl ?_
  exact r_iret C dX5_washes_37 rfl
/-! wash -/
def fX5_wash (th : Nat) (x1 : Int32) (P : mm_P) : Option (Int32 × mm_P) :=
  mm_lt (sI P 640 th (0 : Int32)) fun P1 =>
  mm_bd (fX5_isCloth th P1 x1) fun r2 =>
  if r2 = 0 then
  (some ((-1 : Int32), P1))
  else
  (mm_bd (fX5_isHung th P1 (0 : Int32) x1) fun r5 =>
  if r5 = 0 then
  (mm_bd (fX5_keeps th P1) fun r8 =>
  mm_bd (fX5_washes th (0 : Int32) x1 r8) fun r10 =>
  some (r10.1, r10.2))
  else
  (some ((-1 : Int32), P1)))
set_option maxHeartbeats 4000000 in
theorem mc_X5_wash {l : Launch} {K : mm_K} {P : mm_P} {th : Nat} {x1 : Int32} {nx sl : Nat} {r : (Int32 × mm_P)} (hk : K.1 th = 5) (h : fX5_wash th x1 P = some r) : mm_C l yX5_wash (ws_ yX5_wash cX5_wash 2 (some .int)) 2 45 [.ref th, .int x1] K P nx sl (mm_wwI K nx sl r) :=
  mm_start (ls := [some (.ref th), some (.int x1)]) h (by decide) (Nat.le_of_ble_eq_true rfl) rfl (Nat.le_refl _) (Nat.le_refl _) rfl fun E hl9 _ _ _ C => by
  have C : mm_Cx E RX5 cX5_wash 2 (some .int) 2 45 := C
  unfold fX5_wash
  refine r_aload_n C dX5_wash_0 rfl rfl ?_
  refine r_iconst (v := 0) C dX5_wash_1 rfl ?_
  refine r_putI (code := 640) C fl_X5_1 hk rfl rfl dX5_wash_2 ?_
  refine r_ltP fun P1 => ?_
  refine r_aload_n C dX5_wash_5 rfl rfl ?_
  refine r_iload_n C dX5_wash_6 rfl rfl ?_
  refine r_bd fun r2 h3 => ?_
  refine r_callV (As := [.int x1]) (st := []) C (mc_X5_isCloth hk h3) cv_X5_346 hk rfl (Nat.le_of_ble_eq_true rfl) (Nat.le_of_ble_eq_true rfl) rfl (Nat.le_of_ble_eq_true rfl) dX5_wash_7 ?_
  refine r_ifeq (tgt := 22) C dX5_wash_10 (by decide) (fun h4 => ?_) (fun h4 => ?_)
  · refine r_iconst (v := -1) C dX5_wash_22 rfl ?_
    exact r_iret C dX5_wash_23 rfl
  · refine r_aload_n C dX5_wash_13 rfl rfl ?_
    refine r_iconst (v := 0) C dX5_wash_14 rfl ?_
    refine r_iload_n C dX5_wash_15 rfl rfl ?_
    refine r_bd fun r5 h6 => ?_
    refine r_callV (As := [.int (0 : Int32), .int x1]) (st := []) C (mc_X5_isHung hk h6) cv_X5_304 hk rfl (Nat.le_of_ble_eq_true rfl) (Nat.le_of_ble_eq_true rfl) rfl (Nat.le_of_ble_eq_true rfl) dX5_wash_16 ?_
    refine r_ifeq (tgt := 24) C dX5_wash_19 (by decide) (fun h7 => ?_) (fun h7 => ?_)
    · refine r_aload_n C dX5_wash_24 rfl rfl ?_
      refine r_bd fun r8 h9 => ?_
      refine r_callVv (As := []) (st := []) C (mc_X5_keeps hk h9) cv_X5_370 hk rfl (Nat.le_of_ble_eq_true rfl) (Nat.le_of_ble_eq_true rfl) rfl (Nat.le_of_ble_eq_true rfl) dX5_wash_25 ?_
      refine r_aload_n C dX5_wash_28 rfl rfl ?_
      refine r_iconst (v := 0) C dX5_wash_29 rfl ?_
      refine r_iload_n C dX5_wash_30 rfl rfl ?_
      refine r_bd fun r10 h11 => ?_
      refine r_callV (As := [.int (0 : Int32), .int x1]) (st := []) C (mc_X5_washes hk h11) cv_X5_373 hk rfl (Nat.le_of_ble_eq_true rfl) (Nat.le_of_ble_eq_true rfl) rfl (Nat.le_of_ble_eq_true rfl) dX5_wash_31 ?_
      exact r_iret C dX5_wash_34 rfl
    · refine r_iconst (v := -1) C dX5_wash_22 rfl ?_
      exact r_iret C dX5_wash_23 rfl
/-! buys -/
def fX5_buys (th : Nat) (x1 : Int32) (x2 : Int32) (P : mm_P) : Option (Int32 × mm_P) :=
  mm_gd (mm_in (x1 + (1 : Int32)) 1242) <|
  mm_lt (gA P 662 th (x1 + (1 : Int32)).toNatClampNeg) fun v2 =>
  mm_gd (mm_in ((x1 + (20 : Int32)) + v2) 1242) <|
  mm_lt (sA P 662 th ((x1 + (20 : Int32)) + v2).toNatClampNeg x2) fun P4 =>
  mm_lt (x1 + (1 : Int32)) fun v5 =>
  mm_gd (mm_in v5 1242) <|
  mm_gd (mm_in v5 1242) <|
  mm_lt (sA P4 662 th v5.toNatClampNeg ((gA P4 662 th v5.toNatClampNeg) + (1 : Int32))) fun P8 =>
  some (v2, P8)
set_option maxHeartbeats 4000000 in
theorem mc_X5_buys {l : Launch} {K : mm_K} {P : mm_P} {th : Nat} {x1 : Int32} {x2 : Int32} {nx sl : Nat} {r : (Int32 × mm_P)} (hk : K.1 th = 5) (h : fX5_buys th x1 x2 P = some r) : mm_C l yX5_buys (ws_ yX5_buys cX5_buys 4 (some .int)) 0 0 [.ref th, .int x1, .int x2] K P nx sl (mm_wwI K nx sl r) :=
  mm_start (ls := [some (.ref th), some (.int x1), some (.int x2), none]) h (by decide) (Nat.le_of_ble_eq_true rfl) rfl (Nat.le_refl _) (Nat.le_refl _) rfl fun E hl9 _ _ _ C => by
  have C : mm_Cx E RX5 cX5_buys 4 (some .int) 0 0 := C
  unfold fX5_buys
  refine r_aload_n C dX5_buys_0 rfl rfl ?_
  refine r_getA C fl_X5_113 hk dX5_buys_1 ?_
  refine r_iload_n C dX5_buys_4 rfl rfl ?_
  refine r_iconst (v := 1) C dX5_buys_5 rfl ?_
  refine r_iadd C dX5_buys_6 ?_
  refine r_iald C (rg_662 hk) rfl dX5_buys_7 fun h1 => ?_
  refine r_ltI fun v2 => ?_
  refine r_istore_n (ls' := [some (.ref th), some (.int x1), some (.int x2), some (.int v2)]) C dX5_buys_8 rfl (Nat.le_of_ble_eq_true rfl) rfl rfl ?_
  refine r_aload_n C dX5_buys_9 rfl rfl ?_
  refine r_getA C fl_X5_113 hk dX5_buys_10 ?_
  refine r_iload_n C dX5_buys_13 rfl rfl ?_
  refine r_bipush (v := 20) C dX5_buys_14 rfl ?_
  refine r_iadd C dX5_buys_16 ?_
  refine r_iload_n C dX5_buys_17 rfl rfl ?_
  refine r_iadd C dX5_buys_18 ?_
  refine r_iload_n C dX5_buys_19 rfl rfl ?_
  refine r_iast C (rg_662 hk) (mm_ro_of (k := 5) hk rfl) rfl dX5_buys_20 fun h3 => ?_
  refine r_ltP fun P4 => ?_
  refine r_aload_n C dX5_buys_21 rfl rfl ?_
  refine r_getA C fl_X5_113 hk dX5_buys_22 ?_
  refine r_iload_n C dX5_buys_25 rfl rfl ?_
  refine r_iconst (v := 1) C dX5_buys_26 rfl ?_
  refine r_iadd C dX5_buys_27 ?_
  refine r_ltI fun v5 => ?_
  refine r_dup2_11 C dX5_buys_28 rfl rfl ?_
  refine r_iald C (rg_662 hk) rfl dX5_buys_29 fun h6 => ?_
  refine r_iconst (v := 1) C dX5_buys_30 rfl ?_
  refine r_iadd C dX5_buys_31 ?_
  refine r_iast C (rg_662 hk) (mm_ro_of (k := 5) hk rfl) rfl dX5_buys_32 fun h7 => ?_
  refine r_ltP fun P8 => ?_
  refine r_iload_n C dX5_buys_33 rfl rfl ?_
  exact r_iret C dX5_buys_34 rfl
/-! buy -/
def fX5_buy (th : Nat) (x1 : Int32) (P : mm_P) : Option (Int32 × mm_P) :=
  mm_lt (sI P 640 th (0 : Int32)) fun P1 =>
  mm_bd (fX5_within x1 (1 : Int32) (9 : Int32)) fun r2 =>
  if r2 = 0 then
  (some ((-1 : Int32), P1))
  else
  (mm_gd (mm_in (1 : Int32) 1242) <|
  if (gA P1 662 th (1 : Int32).toNatClampNeg) ≠ (8 : Int32) then
  (mm_bd (fX5_keeps th P1) fun r7 =>
  mm_bd (fX5_buys th (0 : Int32) x1 r7) fun r9 =>
  some (r9.1, r9.2))
  else
  (some ((-1 : Int32), P1)))
set_option maxHeartbeats 4000000 in
theorem mc_X5_buy {l : Launch} {K : mm_K} {P : mm_P} {th : Nat} {x1 : Int32} {nx sl : Nat} {r : (Int32 × mm_P)} (hk : K.1 th = 5) (h : fX5_buy th x1 P = some r) : mm_C l yX5_buy (ws_ yX5_buy cX5_buy 2 (some .int)) 2 45 [.ref th, .int x1] K P nx sl (mm_wwI K nx sl r) :=
  mm_start (ls := [some (.ref th), some (.int x1)]) h (by decide) (Nat.le_of_ble_eq_true rfl) rfl (Nat.le_refl _) (Nat.le_refl _) rfl fun E hl9 _ _ _ C => by
  have C : mm_Cx E RX5 cX5_buy 2 (some .int) 2 45 := C
  unfold fX5_buy
  refine r_aload_n C dX5_buy_0 rfl rfl ?_
  refine r_iconst (v := 0) C dX5_buy_1 rfl ?_
  refine r_putI (code := 640) C fl_X5_1 hk rfl rfl dX5_buy_2 ?_
  refine r_ltP fun P1 => ?_
  refine r_iload_n C dX5_buy_5 rfl rfl ?_
  refine r_iconst (v := 1) C dX5_buy_6 rfl ?_
  refine r_bipush (v := 9) C dX5_buy_7 rfl ?_
  refine r_bd fun r2 h3 => ?_
  refine r_callS (As := [.int x1, .int (1 : Int32), .int (9 : Int32)]) (st := []) C (mc_X5_within h3) cv_X5_349  rfl (Nat.le_of_ble_eq_true rfl) (Nat.le_of_ble_eq_true rfl) rfl (Nat.le_of_ble_eq_true rfl) dX5_buy_9 ?_
  refine r_ifeq (tgt := 26) C dX5_buy_12 (by decide) (fun h4 => ?_) (fun h4 => ?_)
  · refine r_iconst (v := -1) C dX5_buy_26 rfl ?_
    exact r_iret C dX5_buy_27 rfl
  · refine r_aload_n C dX5_buy_15 rfl rfl ?_
    refine r_getA C fl_X5_113 hk dX5_buy_16 ?_
    refine r_iconst (v := 1) C dX5_buy_19 rfl ?_
    refine r_iald C (rg_662 hk) rfl dX5_buy_20 fun h5 => ?_
    refine r_bipush (v := 8) C dX5_buy_21 rfl ?_
    refine r_icmpne (tgt := 28) C dX5_buy_23 (by decide) (fun h6 => ?_) (fun h6 => ?_)
    · refine r_aload_n C dX5_buy_28 rfl rfl ?_
      refine r_bd fun r7 h8 => ?_
      refine r_callVv (As := []) (st := []) C (mc_X5_keeps hk h8) cv_X5_370 hk rfl (Nat.le_of_ble_eq_true rfl) (Nat.le_of_ble_eq_true rfl) rfl (Nat.le_of_ble_eq_true rfl) dX5_buy_29 ?_
      refine r_aload_n C dX5_buy_32 rfl rfl ?_
      refine r_iconst (v := 0) C dX5_buy_33 rfl ?_
      refine r_iload_n C dX5_buy_34 rfl rfl ?_
      refine r_bd fun r9 h10 => ?_
      refine r_callV (As := [.int (0 : Int32), .int x1]) (st := []) C (mc_X5_buys hk h10) cv_X5_376 hk rfl (Nat.le_of_ble_eq_true rfl) (Nat.le_of_ble_eq_true rfl) rfl (Nat.le_of_ble_eq_true rfl) dX5_buy_35 ?_
      exact r_iret C dX5_buy_38 rfl
    · refine r_iconst (v := -1) C dX5_buy_26 rfl ?_
      exact r_iret C dX5_buy_27 rfl
/-! gripsOf -/
def fX5_gripsOf_b5 (th : Nat) (P : mm_P)  : Nat → Int32 → Int32 → Int32 → Int32 → Option Int32
  | 0, _, _, _, _ => none
  | n + 1, x1, x2, x3, x4 =>
  if (8 : Int32) ≤ x4 then
  (some (x3))
  else
  (if ((mm_shr x2 x4) &&& (1 : Int32)) ≠ (1 : Int32) then
  (mm_lt (x3 + (0 : Int32)) fun v3 =>
  fX5_gripsOf_b5 th P n x1 x2 v3 (x4 + (1 : Int32)))
  else
  (mm_gd (mm_in ((x1 + (20 : Int32)) + x4) 1242) <|
  mm_lt (x3 + (gA P 662 th ((x1 + (20 : Int32)) + x4).toNatClampNeg)) fun v5 =>
  fX5_gripsOf_b5 th P n x1 x2 v5 (x4 + (1 : Int32))))
set_option maxHeartbeats 4000000 in
theorem wfX5_gripsOf_b5 {E : mm_E} (C : mm_Cx E RX5 cX5_gripsOf 5 (some .int) 0 0) {K : mm_K} {th : Nat} (hk : K.1 th = 5) {P : mm_P} {nx sl : Nat} : ∀ (n : Nat), ∀ (x1 : Int32) (x2 : Int32) (x3 : Int32) (x4 : Int32), mm_V E (mm_wrI K P nx sl) 5 [some (.ref th), some (.int x1), some (.int x2), some (.int x3), some (.int x4)] [] K P nx sl (fX5_gripsOf_b5 th P n x1 x2 x3 x4) := by
  intro n
  induction n with
  | zero => intro x1 x2 x3 x4; exact r_none
  | succ n ih =>
    intro x1 x2 x3 x4
    rw [fX5_gripsOf_b5]
    refine r_iload C dX5_gripsOf_5 rfl ?_
    refine r_bipush (v := 8) C dX5_gripsOf_7 rfl ?_
    refine r_icmpge (tgt := 47) C dX5_gripsOf_9 (by decide) (fun h1 => ?_) (fun h1 => ?_)
    · refine r_iload_n C dX5_gripsOf_47 rfl rfl ?_
      exact r_iret C dX5_gripsOf_48 rfl
    · refine r_iload_n C dX5_gripsOf_12 rfl rfl ?_
      refine r_iload_n C dX5_gripsOf_13 rfl rfl ?_
      refine r_iload C dX5_gripsOf_14 rfl ?_
      refine r_ishr C dX5_gripsOf_16 ?_
      refine r_iconst (v := 1) C dX5_gripsOf_17 rfl ?_
      refine r_iand C dX5_gripsOf_18 ?_
      refine r_iconst (v := 1) C dX5_gripsOf_19 rfl ?_
      refine r_icmpne (tgt := 38) C dX5_gripsOf_20 (by decide) (fun h2 => ?_) (fun h2 => ?_)
      · refine r_iconst (v := 0) C dX5_gripsOf_38 rfl ?_
        refine r_iadd C dX5_gripsOf_39 ?_
        refine r_ltI fun v3 => ?_
        refine r_istore_n (ls' := [some (.ref th), some (.int x1), some (.int x2), some (.int v3), some (.int x4)]) C dX5_gripsOf_40 rfl (Nat.le_of_ble_eq_true rfl) rfl rfl ?_
        refine r_iinc (v := 1) (ls' := [some (.ref th), some (.int x1), some (.int x2), some (.int v3), some (.int (x4 + (1 : Int32)))]) C dX5_gripsOf_41 rfl rfl (Nat.le_of_ble_eq_true rfl) rfl rfl ?_
        refine r_goto (tgt := 5) C dX5_gripsOf_44 (by decide) ?_
        exact ih x1 x2 v3 (x4 + (1 : Int32))
      · refine r_aload_n C dX5_gripsOf_23 rfl rfl ?_
        refine r_getA C fl_X5_113 hk dX5_gripsOf_24 ?_
        refine r_iload_n C dX5_gripsOf_27 rfl rfl ?_
        refine r_bipush (v := 20) C dX5_gripsOf_28 rfl ?_
        refine r_iadd C dX5_gripsOf_30 ?_
        refine r_iload C dX5_gripsOf_31 rfl ?_
        refine r_iadd C dX5_gripsOf_33 ?_
        refine r_iald C (rg_662 hk) rfl dX5_gripsOf_34 fun h4 => ?_
        refine r_goto (tgt := 39) C dX5_gripsOf_35 (by decide) ?_
        refine r_iadd C dX5_gripsOf_39 ?_
        refine r_ltI fun v5 => ?_
        refine r_istore_n (ls' := [some (.ref th), some (.int x1), some (.int x2), some (.int v5), some (.int x4)]) C dX5_gripsOf_40 rfl (Nat.le_of_ble_eq_true rfl) rfl rfl ?_
        refine r_iinc (v := 1) (ls' := [some (.ref th), some (.int x1), some (.int x2), some (.int v5), some (.int (x4 + (1 : Int32)))]) C dX5_gripsOf_41 rfl rfl (Nat.le_of_ble_eq_true rfl) rfl rfl ?_
        refine r_goto (tgt := 5) C dX5_gripsOf_44 (by decide) ?_
        exact ih x1 x2 v5 (x4 + (1 : Int32))
def fX5_gripsOf (th : Nat) (P : mm_P) (x1 : Int32) (x2 : Int32) : Option Int32 :=
  fX5_gripsOf_b5 th P mm_NF x1 x2 (0 : Int32) (0 : Int32)
set_option maxHeartbeats 4000000 in
theorem mc_X5_gripsOf {l : Launch} {K : mm_K} {P : mm_P} {th : Nat} {x1 : Int32} {x2 : Int32} {nx sl : Nat} {r : Int32} (hk : K.1 th = 5) (h : fX5_gripsOf th P x1 x2 = some r) : mm_C l yX5_gripsOf (ws_ yX5_gripsOf cX5_gripsOf 5 (some .int)) 0 0 [.ref th, .int x1, .int x2] K P nx sl (mm_wrI K P nx sl r) :=
  mm_start (ls := [some (.ref th), some (.int x1), some (.int x2), none, none]) h (by decide) (Nat.le_of_ble_eq_true rfl) rfl (Nat.le_refl _) (Nat.le_refl _) rfl fun E hl9 _ _ _ C => by
  have C : mm_Cx E RX5 cX5_gripsOf 5 (some .int) 0 0 := C
  unfold fX5_gripsOf
  refine r_iconst (v := 0) C dX5_gripsOf_0 rfl ?_
  refine r_istore_n (ls' := [some (.ref th), some (.int x1), some (.int x2), some (.int (0 : Int32)), none]) C dX5_gripsOf_1 rfl (Nat.le_of_ble_eq_true rfl) rfl rfl ?_
  refine r_iconst (v := 0) C dX5_gripsOf_2 rfl ?_
  refine r_istore (ls' := [some (.ref th), some (.int x1), some (.int x2), some (.int (0 : Int32)), some (.int (0 : Int32))]) C dX5_gripsOf_3 (Nat.le_of_ble_eq_true rfl) rfl rfl ?_
  exact wfX5_gripsOf_b5 C hk mm_NF x1 x2 (0 : Int32) (0 : Int32)
/-! loosens -/
def fX5_loosens_b2 (th : Nat)  : Nat → Int32 → Int32 → Int32 → mm_P → Option mm_P
  | 0, _, _, _, _ => none
  | n + 1, x1, x2, x3, P =>
  if (8 : Int32) ≤ x3 then
  (some P)
  else
  (mm_lt ((x1 + (20 : Int32)) + x3) fun v2 =>
  mm_gd (mm_in v2 1242) <|
  if ((mm_shr x2 x3) &&& (1 : Int32)) ≠ (1 : Int32) then
  (mm_gd (mm_in v2 1242) <|
  mm_lt (sA P 662 th v2.toNatClampNeg ((gA P 662 th v2.toNatClampNeg) - (0 : Int32))) fun P6 =>
  fX5_loosens_b2 th n x1 x2 (x3 + (1 : Int32)) P6)
  else
  (mm_gd (mm_in ((x1 + (20 : Int32)) + x3) 1242) <|
  if (gA P 662 th ((x1 + (20 : Int32)) + x3).toNatClampNeg) ≤ 0 then
  (mm_gd (mm_in v2 1242) <|
  mm_lt (sA P 662 th v2.toNatClampNeg ((gA P 662 th v2.toNatClampNeg) - (0 : Int32))) fun P10 =>
  fX5_loosens_b2 th n x1 x2 (x3 + (1 : Int32)) P10)
  else
  (mm_gd (mm_in v2 1242) <|
  mm_lt (sA P 662 th v2.toNatClampNeg ((gA P 662 th v2.toNatClampNeg) - (1 : Int32))) fun P12 =>
  fX5_loosens_b2 th n x1 x2 (x3 + (1 : Int32)) P12)))
set_option maxHeartbeats 4000000 in
theorem wfX5_loosens_b2 {E : mm_E} (C : mm_Cx E RX5 cX5_loosens 4 none 0 0) {K : mm_K} {th : Nat} (hk : K.1 th = 5) {nx sl : Nat} : ∀ (n : Nat), ∀ (x1 : Int32) (x2 : Int32) (x3 : Int32) (P : mm_P), mm_V E (mm_wwV K nx sl) 2 [some (.ref th), some (.int x1), some (.int x2), some (.int x3)] [] K P nx sl (fX5_loosens_b2 th n x1 x2 x3 P) := by
  intro n
  induction n with
  | zero => intro x1 x2 x3 P; exact r_none
  | succ n ih =>
    intro x1 x2 x3 P
    rw [fX5_loosens_b2]
    refine r_iload_n C dX5_loosens_2 rfl rfl ?_
    refine r_bipush (v := 8) C dX5_loosens_3 rfl ?_
    refine r_icmpge (tgt := 56) C dX5_loosens_5 (by decide) (fun h1 => ?_) (fun h1 => ?_)
    · exact r_vret C dX5_loosens_56 rfl
    · refine r_aload_n C dX5_loosens_8 rfl rfl ?_
      refine r_getA C fl_X5_113 hk dX5_loosens_9 ?_
      refine r_iload_n C dX5_loosens_12 rfl rfl ?_
      refine r_bipush (v := 20) C dX5_loosens_13 rfl ?_
      refine r_iadd C dX5_loosens_15 ?_
      refine r_iload_n C dX5_loosens_16 rfl rfl ?_
      refine r_iadd C dX5_loosens_17 ?_
      refine r_ltI fun v2 => ?_
      refine r_dup2_11 C dX5_loosens_18 rfl rfl ?_
      refine r_iald C (rg_662 hk) rfl dX5_loosens_19 fun h3 => ?_
      refine r_iload_n C dX5_loosens_20 rfl rfl ?_
      refine r_iload_n C dX5_loosens_21 rfl rfl ?_
      refine r_ishr C dX5_loosens_22 ?_
      refine r_iconst (v := 1) C dX5_loosens_23 rfl ?_
      refine r_iand C dX5_loosens_24 ?_
      refine r_iconst (v := 1) C dX5_loosens_25 rfl ?_
      refine r_icmpne (tgt := 47) C dX5_loosens_26 (by decide) (fun h4 => ?_) (fun h4 => ?_)
      · refine r_iconst (v := 0) C dX5_loosens_47 rfl ?_
        refine r_isub C dX5_loosens_48 ?_
        refine r_iast C (rg_662 hk) (mm_ro_of (k := 5) hk rfl) rfl dX5_loosens_49 fun h5 => ?_
        refine r_ltP fun P6 => ?_
        refine r_iinc (v := 1) (ls' := [some (.ref th), some (.int x1), some (.int x2), some (.int (x3 + (1 : Int32)))]) C dX5_loosens_50 rfl rfl (Nat.le_of_ble_eq_true rfl) rfl rfl ?_
        refine r_goto (tgt := 2) C dX5_loosens_53 (by decide) ?_
        exact ih x1 x2 (x3 + (1 : Int32)) P6
      · refine r_aload_n C dX5_loosens_29 rfl rfl ?_
        refine r_getA C fl_X5_113 hk dX5_loosens_30 ?_
        refine r_iload_n C dX5_loosens_33 rfl rfl ?_
        refine r_bipush (v := 20) C dX5_loosens_34 rfl ?_
        refine r_iadd C dX5_loosens_36 ?_
        refine r_iload_n C dX5_loosens_37 rfl rfl ?_
        refine r_iadd C dX5_loosens_38 ?_
        refine r_iald C (rg_662 hk) rfl dX5_loosens_39 fun h7 => ?_
        refine r_ifle (tgt := 47) C dX5_loosens_40 (by decide) (fun h8 => ?_) (fun h8 => ?_)
        · refine r_iconst (v := 0) C dX5_loosens_47 rfl ?_
          refine r_isub C dX5_loosens_48 ?_
          refine r_iast C (rg_662 hk) (mm_ro_of (k := 5) hk rfl) rfl dX5_loosens_49 fun h9 => ?_
          refine r_ltP fun P10 => ?_
          refine r_iinc (v := 1) (ls' := [some (.ref th), some (.int x1), some (.int x2), some (.int (x3 + (1 : Int32)))]) C dX5_loosens_50 rfl rfl (Nat.le_of_ble_eq_true rfl) rfl rfl ?_
          refine r_goto (tgt := 2) C dX5_loosens_53 (by decide) ?_
          exact ih x1 x2 (x3 + (1 : Int32)) P10
        · refine r_iconst (v := 1) C dX5_loosens_43 rfl ?_
          refine r_goto (tgt := 48) C dX5_loosens_44 (by decide) ?_
          refine r_isub C dX5_loosens_48 ?_
          refine r_iast C (rg_662 hk) (mm_ro_of (k := 5) hk rfl) rfl dX5_loosens_49 fun h11 => ?_
          refine r_ltP fun P12 => ?_
          refine r_iinc (v := 1) (ls' := [some (.ref th), some (.int x1), some (.int x2), some (.int (x3 + (1 : Int32)))]) C dX5_loosens_50 rfl rfl (Nat.le_of_ble_eq_true rfl) rfl rfl ?_
          refine r_goto (tgt := 2) C dX5_loosens_53 (by decide) ?_
          exact ih x1 x2 (x3 + (1 : Int32)) P12
def fX5_loosens (th : Nat) (x1 : Int32) (x2 : Int32) (P : mm_P) : Option mm_P :=
  fX5_loosens_b2 th mm_NF x1 x2 (0 : Int32) P
set_option maxHeartbeats 4000000 in
theorem mc_X5_loosens {l : Launch} {K : mm_K} {P : mm_P} {th : Nat} {x1 : Int32} {x2 : Int32} {nx sl : Nat} {r : mm_P} (hk : K.1 th = 5) (h : fX5_loosens th x1 x2 P = some r) : mm_C l yX5_loosens (ws_ yX5_loosens cX5_loosens 4 none) 0 0 [.ref th, .int x1, .int x2] K P nx sl (mm_wwV K nx sl r) :=
  mm_start (ls := [some (.ref th), some (.int x1), some (.int x2), none]) h (by decide) (Nat.le_of_ble_eq_true rfl) rfl (Nat.le_refl _) (Nat.le_refl _) rfl fun E hl9 _ _ _ C => by
  have C : mm_Cx E RX5 cX5_loosens 4 none 0 0 := C
  unfold fX5_loosens
  refine r_iconst (v := 0) C dX5_loosens_0 rfl ?_
  refine r_istore_n (ls' := [some (.ref th), some (.int x1), some (.int x2), some (.int (0 : Int32))]) C dX5_loosens_1 rfl (Nat.le_of_ble_eq_true rfl) rfl rfl ?_
  exact wfX5_loosens_b2 C hk mm_NF x1 x2 (0 : Int32) P
/-! held -/
def fX5_held_b5 (th : Nat) (P : mm_P)  : Nat → Int32 → Int32 → Int32 → Int32 → Option Int32
  | 0, _, _, _, _ => none
  | n + 1, x1, x2, x3, x4 =>
  if (8 : Int32) ≤ x4 then
  (some (x3))
  else
  (if ((mm_shr x2 x4) &&& (1 : Int32)) ≠ (1 : Int32) then
  (mm_lt (x3 ||| (0 : Int32)) fun v3 =>
  fX5_held_b5 th P n x1 x2 v3 (x4 + (1 : Int32)))
  else
  (mm_gd (mm_in ((x1 + (20 : Int32)) + x4) 1242) <|
  if (gA P 662 th ((x1 + (20 : Int32)) + x4).toNatClampNeg) ≤ 0 then
  (mm_lt (x3 ||| (0 : Int32)) fun v6 =>
  fX5_held_b5 th P n x1 x2 v6 (x4 + (1 : Int32)))
  else
  (mm_lt (x3 ||| (mm_shl (1 : Int32) x4)) fun v7 =>
  fX5_held_b5 th P n x1 x2 v7 (x4 + (1 : Int32)))))
set_option maxHeartbeats 4000000 in
theorem wfX5_held_b5 {E : mm_E} (C : mm_Cx E RX5 cX5_held 5 (some .int) 0 0) {K : mm_K} {th : Nat} (hk : K.1 th = 5) {P : mm_P} {nx sl : Nat} : ∀ (n : Nat), ∀ (x1 : Int32) (x2 : Int32) (x3 : Int32) (x4 : Int32), mm_V E (mm_wrI K P nx sl) 5 [some (.ref th), some (.int x1), some (.int x2), some (.int x3), some (.int x4)] [] K P nx sl (fX5_held_b5 th P n x1 x2 x3 x4) := by
  intro n
  induction n with
  | zero => intro x1 x2 x3 x4; exact r_none
  | succ n ih =>
    intro x1 x2 x3 x4
    rw [fX5_held_b5]
    refine r_iload C dX5_held_5 rfl ?_
    refine r_bipush (v := 8) C dX5_held_7 rfl ?_
    refine r_icmpge (tgt := 54) C dX5_held_9 (by decide) (fun h1 => ?_) (fun h1 => ?_)
    · refine r_iload_n C dX5_held_54 rfl rfl ?_
      exact r_iret C dX5_held_55 rfl
    · refine r_iload_n C dX5_held_12 rfl rfl ?_
      refine r_iload_n C dX5_held_13 rfl rfl ?_
      refine r_iload C dX5_held_14 rfl ?_
      refine r_ishr C dX5_held_16 ?_
      refine r_iconst (v := 1) C dX5_held_17 rfl ?_
      refine r_iand C dX5_held_18 ?_
      refine r_iconst (v := 1) C dX5_held_19 rfl ?_
      refine r_icmpne (tgt := 45) C dX5_held_20 (by decide) (fun h2 => ?_) (fun h2 => ?_)
      · refine r_iconst (v := 0) C dX5_held_45 rfl ?_
        refine r_ior C dX5_held_46 ?_
        refine r_ltI fun v3 => ?_
        refine r_istore_n (ls' := [some (.ref th), some (.int x1), some (.int x2), some (.int v3), some (.int x4)]) C dX5_held_47 rfl (Nat.le_of_ble_eq_true rfl) rfl rfl ?_
        refine r_iinc (v := 1) (ls' := [some (.ref th), some (.int x1), some (.int x2), some (.int v3), some (.int (x4 + (1 : Int32)))]) C dX5_held_48 rfl rfl (Nat.le_of_ble_eq_true rfl) rfl rfl ?_
        refine r_goto (tgt := 5) C dX5_held_51 (by decide) ?_
        exact ih x1 x2 v3 (x4 + (1 : Int32))
      · refine r_aload_n C dX5_held_23 rfl rfl ?_
        refine r_getA C fl_X5_113 hk dX5_held_24 ?_
        refine r_iload_n C dX5_held_27 rfl rfl ?_
        refine r_bipush (v := 20) C dX5_held_28 rfl ?_
        refine r_iadd C dX5_held_30 ?_
        refine r_iload C dX5_held_31 rfl ?_
        refine r_iadd C dX5_held_33 ?_
        refine r_iald C (rg_662 hk) rfl dX5_held_34 fun h4 => ?_
        refine r_ifle (tgt := 45) C dX5_held_35 (by decide) (fun h5 => ?_) (fun h5 => ?_)
        · refine r_iconst (v := 0) C dX5_held_45 rfl ?_
          refine r_ior C dX5_held_46 ?_
          refine r_ltI fun v6 => ?_
          refine r_istore_n (ls' := [some (.ref th), some (.int x1), some (.int x2), some (.int v6), some (.int x4)]) C dX5_held_47 rfl (Nat.le_of_ble_eq_true rfl) rfl rfl ?_
          refine r_iinc (v := 1) (ls' := [some (.ref th), some (.int x1), some (.int x2), some (.int v6), some (.int (x4 + (1 : Int32)))]) C dX5_held_48 rfl rfl (Nat.le_of_ble_eq_true rfl) rfl rfl ?_
          refine r_goto (tgt := 5) C dX5_held_51 (by decide) ?_
          exact ih x1 x2 v6 (x4 + (1 : Int32))
        · refine r_iconst (v := 1) C dX5_held_38 rfl ?_
          refine r_iload C dX5_held_39 rfl ?_
          refine r_ishl C dX5_held_41 ?_
          refine r_goto (tgt := 46) C dX5_held_42 (by decide) ?_
          refine r_ior C dX5_held_46 ?_
          refine r_ltI fun v7 => ?_
          refine r_istore_n (ls' := [some (.ref th), some (.int x1), some (.int x2), some (.int v7), some (.int x4)]) C dX5_held_47 rfl (Nat.le_of_ble_eq_true rfl) rfl rfl ?_
          refine r_iinc (v := 1) (ls' := [some (.ref th), some (.int x1), some (.int x2), some (.int v7), some (.int (x4 + (1 : Int32)))]) C dX5_held_48 rfl rfl (Nat.le_of_ble_eq_true rfl) rfl rfl ?_
          refine r_goto (tgt := 5) C dX5_held_51 (by decide) ?_
          exact ih x1 x2 v7 (x4 + (1 : Int32))
def fX5_held (th : Nat) (P : mm_P) (x1 : Int32) (x2 : Int32) : Option Int32 :=
  fX5_held_b5 th P mm_NF x1 x2 (0 : Int32) (0 : Int32)
set_option maxHeartbeats 4000000 in
theorem mc_X5_held {l : Launch} {K : mm_K} {P : mm_P} {th : Nat} {x1 : Int32} {x2 : Int32} {nx sl : Nat} {r : Int32} (hk : K.1 th = 5) (h : fX5_held th P x1 x2 = some r) : mm_C l yX5_held (ws_ yX5_held cX5_held 5 (some .int)) 0 0 [.ref th, .int x1, .int x2] K P nx sl (mm_wrI K P nx sl r) :=
  mm_start (ls := [some (.ref th), some (.int x1), some (.int x2), none, none]) h (by decide) (Nat.le_of_ble_eq_true rfl) rfl (Nat.le_refl _) (Nat.le_refl _) rfl fun E hl9 _ _ _ C => by
  have C : mm_Cx E RX5 cX5_held 5 (some .int) 0 0 := C
  unfold fX5_held
  refine r_iconst (v := 0) C dX5_held_0 rfl ?_
  refine r_istore_n (ls' := [some (.ref th), some (.int x1), some (.int x2), some (.int (0 : Int32)), none]) C dX5_held_1 rfl (Nat.le_of_ble_eq_true rfl) rfl rfl ?_
  refine r_iconst (v := 0) C dX5_held_2 rfl ?_
  refine r_istore (ls' := [some (.ref th), some (.int x1), some (.int x2), some (.int (0 : Int32)), some (.int (0 : Int32))]) C dX5_held_3 (Nat.le_of_ble_eq_true rfl) rfl rfl ?_
  exact wfX5_held_b5 C hk mm_NF x1 x2 (0 : Int32) (0 : Int32)
/-! falls -/
def fX5_falls (th : Nat) (x1 : Int32) (x2 : Int32) (P : mm_P) : Option mm_P :=
  mm_gd (mm_in ((x1 + (14 : Int32)) + x2) 1242) <|
  mm_lt (sA P 662 th ((x1 + (14 : Int32)) + x2).toNatClampNeg (0 : Int32)) fun P2 =>
  mm_gd (mm_in ((x1 + (2 : Int32)) + x2) 1242) <|
  mm_lt (sA P2 662 th ((x1 + (2 : Int32)) + x2).toNatClampNeg (9 : Int32)) fun P4 =>
  mm_lt ((x1 + (8 : Int32)) + x2) fun v5 =>
  mm_gd (mm_in v5 1242) <|
  mm_gd (mm_in ((x1 + (8 : Int32)) + x2) 1242) <|
  if (9 : Int32) ≤ (gA P4 662 th ((x1 + (8 : Int32)) + x2).toNatClampNeg) then
  (mm_gd (mm_in v5 1242) <|
  mm_lt (sA P4 662 th v5.toNatClampNeg ((gA P4 662 th v5.toNatClampNeg) + (0 : Int32))) fun P10 =>
  some P10)
  else
  (mm_gd (mm_in v5 1242) <|
  mm_lt (sA P4 662 th v5.toNatClampNeg ((gA P4 662 th v5.toNatClampNeg) + (1 : Int32))) fun P12 =>
  some P12)
set_option maxHeartbeats 4000000 in
theorem mc_X5_falls {l : Launch} {K : mm_K} {P : mm_P} {th : Nat} {x1 : Int32} {x2 : Int32} {nx sl : Nat} {r : mm_P} (hk : K.1 th = 5) (h : fX5_falls th x1 x2 P = some r) : mm_C l yX5_falls (ws_ yX5_falls cX5_falls 3 none) 0 0 [.ref th, .int x1, .int x2] K P nx sl (mm_wwV K nx sl r) :=
  mm_start (ls := [some (.ref th), some (.int x1), some (.int x2)]) h (by decide) (Nat.le_of_ble_eq_true rfl) rfl (Nat.le_refl _) (Nat.le_refl _) rfl fun E hl9 _ _ _ C => by
  have C : mm_Cx E RX5 cX5_falls 3 none 0 0 := C
  unfold fX5_falls
  refine r_aload_n C dX5_falls_0 rfl rfl ?_
  refine r_getA C fl_X5_113 hk dX5_falls_1 ?_
  refine r_iload_n C dX5_falls_4 rfl rfl ?_
  refine r_bipush (v := 14) C dX5_falls_5 rfl ?_
  refine r_iadd C dX5_falls_7 ?_
  refine r_iload_n C dX5_falls_8 rfl rfl ?_
  refine r_iadd C dX5_falls_9 ?_
  refine r_iconst (v := 0) C dX5_falls_10 rfl ?_
  refine r_iast C (rg_662 hk) (mm_ro_of (k := 5) hk rfl) rfl dX5_falls_11 fun h1 => ?_
  refine r_ltP fun P2 => ?_
  refine r_aload_n C dX5_falls_12 rfl rfl ?_
  refine r_getA C fl_X5_113 hk dX5_falls_13 ?_
  refine r_iload_n C dX5_falls_16 rfl rfl ?_
  refine r_iconst (v := 2) C dX5_falls_17 rfl ?_
  refine r_iadd C dX5_falls_18 ?_
  refine r_iload_n C dX5_falls_19 rfl rfl ?_
  refine r_iadd C dX5_falls_20 ?_
  refine r_bipush (v := 9) C dX5_falls_21 rfl ?_
  refine r_iast C (rg_662 hk) (mm_ro_of (k := 5) hk rfl) rfl dX5_falls_23 fun h3 => ?_
  refine r_ltP fun P4 => ?_
  refine r_aload_n C dX5_falls_24 rfl rfl ?_
  refine r_getA C fl_X5_113 hk dX5_falls_25 ?_
  refine r_iload_n C dX5_falls_28 rfl rfl ?_
  refine r_bipush (v := 8) C dX5_falls_29 rfl ?_
  refine r_iadd C dX5_falls_31 ?_
  refine r_iload_n C dX5_falls_32 rfl rfl ?_
  refine r_iadd C dX5_falls_33 ?_
  refine r_ltI fun v5 => ?_
  refine r_dup2_11 C dX5_falls_34 rfl rfl ?_
  refine r_iald C (rg_662 hk) rfl dX5_falls_35 fun h6 => ?_
  refine r_aload_n C dX5_falls_36 rfl rfl ?_
  refine r_getA C fl_X5_113 hk dX5_falls_37 ?_
  refine r_iload_n C dX5_falls_40 rfl rfl ?_
  refine r_bipush (v := 8) C dX5_falls_41 rfl ?_
  refine r_iadd C dX5_falls_43 ?_
  refine r_iload_n C dX5_falls_44 rfl rfl ?_
  refine r_iadd C dX5_falls_45 ?_
  refine r_iald C (rg_662 hk) rfl dX5_falls_46 fun h7 => ?_
  refine r_bipush (v := 9) C dX5_falls_47 rfl ?_
  refine r_icmpge (tgt := 56) C dX5_falls_49 (by decide) (fun h8 => ?_) (fun h8 => ?_)
  · refine r_iconst (v := 0) C dX5_falls_56 rfl ?_
    refine r_iadd C dX5_falls_57 ?_
    refine r_iast C (rg_662 hk) (mm_ro_of (k := 5) hk rfl) rfl dX5_falls_58 fun h9 => ?_
    refine r_ltP fun P10 => ?_
    exact r_vret C dX5_falls_59 rfl
  · refine r_iconst (v := 1) C dX5_falls_52 rfl ?_
    refine r_goto (tgt := 57) C dX5_falls_53 (by decide) ?_
    refine r_iadd C dX5_falls_57 ?_
    refine r_iast C (rg_662 hk) (mm_ro_of (k := 5) hk rfl) rfl dX5_falls_58 fun h11 => ?_
    refine r_ltP fun P12 => ?_
    exact r_vret C dX5_falls_59 rfl
/-! pulls -/
def fX5_pulls_b104 (th : Nat)  (x1 : Int32) (x2 : Int32) (P : mm_P) : Option (Int32 × mm_P) :=
  mm_bd (fX5_falls th x1 x2 P) fun r1 =>
  some ((1 : Int32), r1)
set_option maxHeartbeats 4000000 in
theorem wfX5_pulls_b104 {E : mm_E} (C : mm_Cx E RX5 cX5_pulls 7 (some .boolean) 3 70) {K : mm_K} {th : Nat} (hk : K.1 th = 5) {nx sl : Nat} (x1 : Int32) (x2 : Int32) (P : mm_P) : mm_V E (mm_wwI K nx sl) 104 [some (.ref th), some (.int x1), some (.int x2), none, none, none, none] [] K P nx sl (fX5_pulls_b104 th x1 x2 P) := by
  unfold fX5_pulls_b104
  refine r_aload_n C dX5_pulls_104 rfl rfl ?_
  refine r_iload_n C dX5_pulls_105 rfl rfl ?_
  refine r_iload_n C dX5_pulls_106 rfl rfl ?_
  refine r_bd fun r1 h2 => ?_
  refine r_callVv (As := [.int x1, .int x2]) (st := []) C (mc_X5_falls hk h2) cv_X5_329 hk rfl (Nat.le_of_ble_eq_true rfl) (Nat.le_of_ble_eq_true rfl) rfl (Nat.le_of_ble_eq_true rfl) dX5_pulls_107 ?_
  refine r_iconst (v := 1) C dX5_pulls_110 rfl ?_
  exact r_zret C dX5_pulls_111 rfl rfl
def fX5_pulls_b83 (th : Nat)  (x1 : Int32) (x2 : Int32) (x5 : Int32) (x6 : Int32) (P : mm_P) : Option (Int32 × mm_P) :=
  if x6 < x5 then
  (fX5_pulls_b104 th x1 x2 P)
  else
  (mm_gd (mm_in ((x1 + (14 : Int32)) + x2) 1242) <|
  if (gA P 662 th ((x1 + (14 : Int32)) + x2).toNatClampNeg) ≠ 0 then
  (some ((0 : Int32), P))
  else
  (fX5_pulls_b104 th x1 x2 P))
set_option maxHeartbeats 4000000 in
theorem wfX5_pulls_b83 {E : mm_E} (C : mm_Cx E RX5 cX5_pulls 7 (some .boolean) 3 70) {K : mm_K} {th : Nat} (hk : K.1 th = 5) {nx sl : Nat} (x1 : Int32) (x2 : Int32) (x5 : Int32) (x6 : Int32) (P : mm_P) : mm_V E (mm_wwI K nx sl) 83 [some (.ref th), some (.int x1), some (.int x2), none, none, some (.int x5), some (.int x6)] [] K P nx sl (fX5_pulls_b83 th x1 x2 x5 x6 P) := by
  unfold fX5_pulls_b83
  refine r_iload C dX5_pulls_83 rfl ?_
  refine r_iload C dX5_pulls_85 rfl ?_
  refine r_icmpgt (tgt := 104) C dX5_pulls_87 (by decide) (fun h1 => ?_) (fun h1 => ?_)
  · refine r_mask [true, true, true, true, true, false, false] (ls' := [some (.ref th), some (.int x1), some (.int x2), none, none, none, none]) rfl ?_
    exact wfX5_pulls_b104 C hk x1 x2 P
  · refine r_aload_n C dX5_pulls_90 rfl rfl ?_
    refine r_getA C fl_X5_113 hk dX5_pulls_91 ?_
    refine r_iload_n C dX5_pulls_94 rfl rfl ?_
    refine r_bipush (v := 14) C dX5_pulls_95 rfl ?_
    refine r_iadd C dX5_pulls_97 ?_
    refine r_iload_n C dX5_pulls_98 rfl rfl ?_
    refine r_iadd C dX5_pulls_99 ?_
    refine r_iald C (rg_662 hk) rfl dX5_pulls_100 fun h2 => ?_
    refine r_ifne (tgt := 112) C dX5_pulls_101 (by decide) (fun h3 => ?_) (fun h3 => ?_)
    · refine r_iconst (v := 0) C dX5_pulls_112 rfl ?_
      exact r_zret C dX5_pulls_113 rfl rfl
    · refine r_mask [true, true, true, true, true, false, false] (ls' := [some (.ref th), some (.int x1), some (.int x2), none, none, none, none]) rfl ?_
      exact wfX5_pulls_b104 C hk x1 x2 P
def fX5_pulls (th : Nat) (x1 : Int32) (x2 : Int32) (x3 : Int32) (P : mm_P) : Option (Int32 × mm_P) :=
  mm_gd (mm_in ((x1 + (14 : Int32)) + x2) 1242) <|
  mm_lt (gA P 662 th ((x1 + (14 : Int32)) + x2).toNatClampNeg) fun v2 =>
  mm_gd (mm_in ((x1 + (2 : Int32)) + x2) 1242) <|
  mm_bd (fX5_pullOf th x2 (gA P 662 th ((x1 + (2 : Int32)) + x2).toNatClampNeg) x3 P) fun r4 =>
  mm_bd (fX5_gripsOf th r4.2 x1 v2) fun r6 =>
  if r6 < ((2 : Int32) * r4.1) then
  (mm_bd (fX5_loosens th x1 v2 r4.2) fun r9 =>
  if r6 < r4.1 then
  (fX5_pulls_b83 th x1 x2 r4.1 r6 r9)
  else
  (mm_bd (fX5_held th r9 x1 v2) fun r12 =>
  mm_gd (mm_in ((x1 + (14 : Int32)) + x2) 1242) <|
  mm_lt (sA r9 662 th ((x1 + (14 : Int32)) + x2).toNatClampNeg r12) fun P15 =>
  fX5_pulls_b83 th x1 x2 r4.1 r6 P15))
  else
  (some ((0 : Int32), r4.2))
set_option maxHeartbeats 4000000 in
theorem mc_X5_pulls {l : Launch} {K : mm_K} {P : mm_P} {th : Nat} {x1 : Int32} {x2 : Int32} {x3 : Int32} {nx sl : Nat} {r : (Int32 × mm_P)} (hk : K.1 th = 5) (h : fX5_pulls th x1 x2 x3 P = some r) : mm_C l yX5_pulls (ws_ yX5_pulls cX5_pulls 7 (some .boolean)) 3 70 [.ref th, .int x1, .int x2, .int x3] K P nx sl (mm_wwI K nx sl r) :=
  mm_start (ls := [some (.ref th), some (.int x1), some (.int x2), some (.int x3), none, none, none]) h (by decide) (Nat.le_of_ble_eq_true rfl) rfl (Nat.le_refl _) (Nat.le_refl _) rfl fun E hl9 _ _ _ C => by
  have C : mm_Cx E RX5 cX5_pulls 7 (some .boolean) 3 70 := C
  unfold fX5_pulls
  refine r_aload_n C dX5_pulls_0 rfl rfl ?_
  refine r_getA C fl_X5_113 hk dX5_pulls_1 ?_
  refine r_iload_n C dX5_pulls_4 rfl rfl ?_
  refine r_bipush (v := 14) C dX5_pulls_5 rfl ?_
  refine r_iadd C dX5_pulls_7 ?_
  refine r_iload_n C dX5_pulls_8 rfl rfl ?_
  refine r_iadd C dX5_pulls_9 ?_
  refine r_iald C (rg_662 hk) rfl dX5_pulls_10 fun h1 => ?_
  refine r_ltI fun v2 => ?_
  refine r_istore (ls' := [some (.ref th), some (.int x1), some (.int x2), some (.int x3), some (.int v2), none, none]) C dX5_pulls_11 (Nat.le_of_ble_eq_true rfl) rfl rfl ?_
  refine r_aload_n C dX5_pulls_13 rfl rfl ?_
  refine r_iload_n C dX5_pulls_14 rfl rfl ?_
  refine r_aload_n C dX5_pulls_15 rfl rfl ?_
  refine r_getA C fl_X5_113 hk dX5_pulls_16 ?_
  refine r_iload_n C dX5_pulls_19 rfl rfl ?_
  refine r_iconst (v := 2) C dX5_pulls_20 rfl ?_
  refine r_iadd C dX5_pulls_21 ?_
  refine r_iload_n C dX5_pulls_22 rfl rfl ?_
  refine r_iadd C dX5_pulls_23 ?_
  refine r_iald C (rg_662 hk) rfl dX5_pulls_24 fun h3 => ?_
  refine r_iload_n C dX5_pulls_25 rfl rfl ?_
  refine r_bd fun r4 h5 => ?_
  refine r_callV (As := [.int x2, .int (gA P 662 th ((x1 + (2 : Int32)) + x2).toNatClampNeg), .int x3]) (st := []) C (mc_X5_pullOf hk h5) cv_X5_317 hk rfl (Nat.le_of_ble_eq_true rfl) (Nat.le_of_ble_eq_true rfl) rfl (Nat.le_of_ble_eq_true rfl) dX5_pulls_26 ?_
  refine r_istore (ls' := [some (.ref th), some (.int x1), some (.int x2), some (.int x3), some (.int v2), some (.int r4.1), none]) C dX5_pulls_29 (Nat.le_of_ble_eq_true rfl) rfl rfl ?_
  refine r_aload_n C dX5_pulls_31 rfl rfl ?_
  refine r_iload_n C dX5_pulls_32 rfl rfl ?_
  refine r_iload C dX5_pulls_33 rfl ?_
  refine r_bd fun r6 h7 => ?_
  refine r_callV (As := [.int x1, .int v2]) (st := []) C (mc_X5_gripsOf hk h7) cv_X5_320 hk rfl (Nat.le_of_ble_eq_true rfl) (Nat.le_of_ble_eq_true rfl) rfl (Nat.le_of_ble_eq_true rfl) dX5_pulls_35 ?_
  refine r_istore (ls' := [some (.ref th), some (.int x1), some (.int x2), some (.int x3), some (.int v2), some (.int r4.1), some (.int r6)]) C dX5_pulls_38 (Nat.le_of_ble_eq_true rfl) rfl rfl ?_
  refine r_iconst (v := 2) C dX5_pulls_40 rfl ?_
  refine r_iload C dX5_pulls_41 rfl ?_
  refine r_imul C dX5_pulls_43 ?_
  refine r_iload C dX5_pulls_44 rfl ?_
  refine r_icmpgt (tgt := 51) C dX5_pulls_46 (by decide) (fun h8 => ?_) (fun h8 => ?_)
  · refine r_aload_n C dX5_pulls_51 rfl rfl ?_
    refine r_iload_n C dX5_pulls_52 rfl rfl ?_
    refine r_iload C dX5_pulls_53 rfl ?_
    refine r_bd fun r9 h10 => ?_
    refine r_callVv (As := [.int x1, .int v2]) (st := []) C (mc_X5_loosens hk h10) cv_X5_323 hk rfl (Nat.le_of_ble_eq_true rfl) (Nat.le_of_ble_eq_true rfl) rfl (Nat.le_of_ble_eq_true rfl) dX5_pulls_55 ?_
    refine r_iload C dX5_pulls_58 rfl ?_
    refine r_iload C dX5_pulls_60 rfl ?_
    refine r_icmpgt (tgt := 83) C dX5_pulls_62 (by decide) (fun h11 => ?_) (fun h11 => ?_)
    · refine r_mask [true, true, true, false, false, true, true] (ls' := [some (.ref th), some (.int x1), some (.int x2), none, none, some (.int r4.1), some (.int r6)]) rfl ?_
      exact wfX5_pulls_b83 C hk x1 x2 r4.1 r6 r9
    · refine r_aload_n C dX5_pulls_65 rfl rfl ?_
      refine r_getA C fl_X5_113 hk dX5_pulls_66 ?_
      refine r_iload_n C dX5_pulls_69 rfl rfl ?_
      refine r_bipush (v := 14) C dX5_pulls_70 rfl ?_
      refine r_iadd C dX5_pulls_72 ?_
      refine r_iload_n C dX5_pulls_73 rfl rfl ?_
      refine r_iadd C dX5_pulls_74 ?_
      refine r_aload_n C dX5_pulls_75 rfl rfl ?_
      refine r_iload_n C dX5_pulls_76 rfl rfl ?_
      refine r_iload C dX5_pulls_77 rfl ?_
      refine r_bd fun r12 h13 => ?_
      refine r_callV (As := [.int x1, .int v2]) (st := [.int ((x1 + (14 : Int32)) + x2), .ref (th + 14)]) C (mc_X5_held hk h13) cv_X5_326 hk rfl (Nat.le_of_ble_eq_true rfl) (Nat.le_of_ble_eq_true rfl) rfl (Nat.le_of_ble_eq_true rfl) dX5_pulls_79 ?_
      refine r_iast C (rg_662 hk) (mm_ro_of (k := 5) hk rfl) rfl dX5_pulls_82 fun h14 => ?_
      refine r_ltP fun P15 => ?_
      refine r_mask [true, true, true, false, false, true, true] (ls' := [some (.ref th), some (.int x1), some (.int x2), none, none, some (.int r4.1), some (.int r6)]) rfl ?_
      exact wfX5_pulls_b83 C hk x1 x2 r4.1 r6 P15
  · refine r_iconst (v := 0) C dX5_pulls_49 rfl ?_
    exact r_zret C dX5_pulls_50 rfl rfl
/-! driedOf -/
def fX5_driedOf_b63 (th : Nat)  (s0 : Int32) (s1 : Int32) (P : mm_P) : Option (Int32 × mm_P) :=
  mm_lt (s0 - s1) fun v1 =>
  if 0 ≤ v1 then
  (some (v1, P))
  else
  (some ((0 : Int32), P))
set_option maxHeartbeats 4000000 in
theorem wfX5_driedOf_b63 {E : mm_E} (C : mm_Cx E RX5 cX5_driedOf 5 (some .int) 2 46) {K : mm_K} {th : Nat} (hk : K.1 th = 5) {nx sl : Nat} (s0 : Int32) (s1 : Int32) (P : mm_P) : mm_V E (mm_wwI K nx sl) 63 [none, none, none, none, none] [.int s1, .int s0] K P nx sl (fX5_driedOf_b63 th s0 s1 P) := by
  unfold fX5_driedOf_b63
  refine r_isub C dX5_driedOf_63 ?_
  refine r_ltI fun v1 => ?_
  refine r_istore (ls' := [none, none, none, none, some (.int v1)]) C dX5_driedOf_64 (Nat.le_of_ble_eq_true rfl) rfl rfl ?_
  refine r_iload C dX5_driedOf_66 rfl ?_
  refine r_ifge (tgt := 75) C dX5_driedOf_68 (by decide) (fun h2 => ?_) (fun h2 => ?_)
  · refine r_iload C dX5_driedOf_75 rfl ?_
    exact r_iret C dX5_driedOf_77 rfl
  · refine r_iconst (v := 0) C dX5_driedOf_71 rfl ?_
    refine r_goto (tgt := 77) C dX5_driedOf_72 (by decide) ?_
    exact r_iret C dX5_driedOf_77 rfl
def fX5_driedOf_b37 (th : Nat)  (x2 : Int32) (s0 : Int32) (P : mm_P) : Option (Int32 × mm_P) :=
  if 0 ≤ s0 then
  (if s0 ≤ (9 : Int32) then
  (fX5_driedOf_b63 th x2 s0 P)
  else
  (fX5_driedOf_b63 th x2 (9 : Int32) P))
  else
  (fX5_driedOf_b63 th x2 (0 : Int32) P)
set_option maxHeartbeats 4000000 in
theorem wfX5_driedOf_b37 {E : mm_E} (C : mm_Cx E RX5 cX5_driedOf 5 (some .int) 2 46) {K : mm_K} {th : Nat} (hk : K.1 th = 5) {nx sl : Nat} (x2 : Int32) (s0 : Int32) (P : mm_P) : mm_V E (mm_wwI K nx sl) 37 [none, none, some (.int x2), none, none] [.int s0] K P nx sl (fX5_driedOf_b37 th x2 s0 P) := by
  unfold fX5_driedOf_b37
  refine r_istore (ls' := [none, none, some (.int x2), none, some (.int s0)]) C dX5_driedOf_37 (Nat.le_of_ble_eq_true rfl) rfl rfl ?_
  refine r_iload_n C dX5_driedOf_39 rfl rfl ?_
  refine r_iload C dX5_driedOf_40 rfl ?_
  refine r_ifge (tgt := 49) C dX5_driedOf_42 (by decide) (fun h1 => ?_) (fun h1 => ?_)
  · refine r_iload C dX5_driedOf_49 rfl ?_
    refine r_bipush (v := 9) C dX5_driedOf_51 rfl ?_
    refine r_icmple (tgt := 61) C dX5_driedOf_53 (by decide) (fun h2 => ?_) (fun h2 => ?_)
    · refine r_iload C dX5_driedOf_61 rfl ?_
      refine r_mask [true, true, false, true, false] (ls' := [none, none, none, none, none]) rfl ?_
      exact wfX5_driedOf_b63 C hk x2 s0 P
    · refine r_bipush (v := 9) C dX5_driedOf_56 rfl ?_
      refine r_goto (tgt := 63) C dX5_driedOf_58 (by decide) ?_
      refine r_mask [true, true, false, true, false] (ls' := [none, none, none, none, none]) rfl ?_
      exact wfX5_driedOf_b63 C hk x2 (9 : Int32) P
  · refine r_iconst (v := 0) C dX5_driedOf_45 rfl ?_
    refine r_goto (tgt := 63) C dX5_driedOf_46 (by decide) ?_
    refine r_mask [true, true, false, true, false] (ls' := [none, none, none, none, none]) rfl ?_
    exact wfX5_driedOf_b63 C hk x2 (0 : Int32) P
def fX5_driedOf (th : Nat) (x1 : Int32) (x2 : Int32) (x3 : Int32) (P : mm_P) : Option (Int32 × mm_P) :=
  mm_bd (fX5_laysFacts th x1 x2 x3 P) fun r1 =>
  mm_gd (mm_in (7 : Int32) 200) <|
  if 0 ≤ (gA r1 650 th (7 : Int32).toNatClampNeg) then
  (mm_gd (mm_in (7 : Int32) 200) <|
  mm_bd (fX5_worthAt th (gA r1 650 th (7 : Int32).toNatClampNeg) r1) fun r6 =>
  fX5_driedOf_b37 th x2 r6.1 r6.2)
  else
  (mm_gd (mm_in (0 : Int32) 3) <|
  fX5_driedOf_b37 th x2 (gA r1 660 th (0 : Int32).toNatClampNeg) r1)
set_option maxHeartbeats 4000000 in
theorem mc_X5_driedOf {l : Launch} {K : mm_K} {P : mm_P} {th : Nat} {x1 : Int32} {x2 : Int32} {x3 : Int32} {nx sl : Nat} {r : (Int32 × mm_P)} (hk : K.1 th = 5) (h : fX5_driedOf th x1 x2 x3 P = some r) : mm_C l yX5_driedOf (ws_ yX5_driedOf cX5_driedOf 5 (some .int)) 2 46 [.ref th, .int x1, .int x2, .int x3] K P nx sl (mm_wwI K nx sl r) :=
  mm_start (ls := [some (.ref th), some (.int x1), some (.int x2), some (.int x3), none]) h (by decide) (Nat.le_of_ble_eq_true rfl) rfl (Nat.le_refl _) (Nat.le_refl _) rfl fun E hl9 _ _ _ C => by
  have C : mm_Cx E RX5 cX5_driedOf 5 (some .int) 2 46 := C
  unfold fX5_driedOf
  refine r_aload_n C dX5_driedOf_0 rfl rfl ?_
  refine r_iload_n C dX5_driedOf_1 rfl rfl ?_
  refine r_iload_n C dX5_driedOf_2 rfl rfl ?_
  refine r_iload_n C dX5_driedOf_3 rfl rfl ?_
  refine r_bd fun r1 h2 => ?_
  refine r_callVv (As := [.int x1, .int x2, .int x3]) (st := []) C (mc_X5_laysFacts hk h2) cv_X5_311 hk rfl (Nat.le_of_ble_eq_true rfl) (Nat.le_of_ble_eq_true rfl) rfl (Nat.le_of_ble_eq_true rfl) dX5_driedOf_4 ?_
  refine r_aload_n C dX5_driedOf_7 rfl rfl ?_
  refine r_getA C fl_X5_89 hk dX5_driedOf_8 ?_
  refine r_bipush (v := 7) C dX5_driedOf_11 rfl ?_
  refine r_iald C (rg_650 hk) rfl dX5_driedOf_13 fun h3 => ?_
  refine r_ifge (tgt := 26) C dX5_driedOf_14 (by decide) (fun h4 => ?_) (fun h4 => ?_)
  · refine r_aload_n C dX5_driedOf_26 rfl rfl ?_
    refine r_aload_n C dX5_driedOf_27 rfl rfl ?_
    refine r_getA C fl_X5_89 hk dX5_driedOf_28 ?_
    refine r_bipush (v := 7) C dX5_driedOf_31 rfl ?_
    refine r_iald C (rg_650 hk) rfl dX5_driedOf_33 fun h5 => ?_
    refine r_bd fun r6 h7 => ?_
    refine r_callV (As := [.int (gA r1 650 th (7 : Int32).toNatClampNeg)]) (st := []) C (mc_X5_worthAt hk h7) cv_X5_314 hk rfl (Nat.le_of_ble_eq_true rfl) (Nat.le_of_ble_eq_true rfl) rfl (Nat.le_of_ble_eq_true rfl) dX5_driedOf_34 ?_
    refine r_mask [false, false, true, false, true] (ls' := [none, none, some (.int x2), none, none]) rfl ?_
    exact wfX5_driedOf_b37 C hk x2 r6.1 r6.2
  · refine r_aload_n C dX5_driedOf_17 rfl rfl ?_
    refine r_getA C fl_X5_107 hk dX5_driedOf_18 ?_
    refine r_iconst (v := 0) C dX5_driedOf_21 rfl ?_
    refine r_iald C (rg_660 hk) rfl dX5_driedOf_22 fun h8 => ?_
    refine r_goto (tgt := 37) C dX5_driedOf_23 (by decide) ?_
    refine r_mask [false, false, true, false, true] (ls' := [none, none, some (.int x2), none, none]) rfl ?_
    exact wfX5_driedOf_b37 C hk x2 (gA r1 660 th (0 : Int32).toNatClampNeg) r1
/-! passes -/
def fX5_passes_b69 (th : Nat)  : Nat → Int32 → Int32 → Int32 → Int32 → mm_P → Option (Int32 × mm_P)
  | 0, _, _, _, _, _ => none
  | n + 1, x1, x3, x4, x5, P =>
  mm_bd (fX5_cloths th P) fun r1 =>
  if r1 ≤ x5 then
  (mm_lt (x1 + (0 : Int32)) fun v4 =>
  mm_gd (mm_in v4 1242) <|
  mm_gd (mm_in v4 1242) <|
  mm_lt (sA P 662 th v4.toNatClampNeg ((gA P 662 th v4.toNatClampNeg) + (1 : Int32))) fun P7 =>
  some (x4, P7))
  else
  (mm_bd (fX5_isHung th P x1 x5) fun r8 =>
  if r8 = 0 then
  (fX5_passes_b69 th n x1 x3 x4 (x5 + (1 : Int32)) P)
  else
  (mm_gd (mm_in ((x1 + (2 : Int32)) + x5) 1242) <|
  mm_bd (fX5_driedOf th x5 (gA P 662 th ((x1 + (2 : Int32)) + x5).toNatClampNeg) x3 P) fun r12 =>
  mm_gd (mm_in ((x1 + (2 : Int32)) + x5) 1242) <|
  mm_lt (sA r12.2 662 th ((x1 + (2 : Int32)) + x5).toNatClampNeg r12.1) fun P15 =>
  fX5_passes_b69 th n x1 x3 x4 (x5 + (1 : Int32)) P15))
set_option maxHeartbeats 4000000 in
theorem wfX5_passes_b69 {E : mm_E} (C : mm_Cx E RX5 cX5_passes 6 (some .int) 4 96) {K : mm_K} {th : Nat} (hk : K.1 th = 5) {nx sl : Nat} : ∀ (n : Nat), ∀ (x1 : Int32) (x3 : Int32) (x4 : Int32) (x5 : Int32) (P : mm_P), mm_V E (mm_wwI K nx sl) 69 [some (.ref th), some (.int x1), none, some (.int x3), some (.int x4), some (.int x5)] [] K P nx sl (fX5_passes_b69 th n x1 x3 x4 x5 P) := by
  intro n
  induction n with
  | zero => intro x1 x3 x4 x5 P; exact r_none
  | succ n ih =>
    intro x1 x3 x4 x5 P
    rw [fX5_passes_b69]
    refine r_iload C dX5_passes_69 rfl ?_
    refine r_aload_n C dX5_passes_71 rfl rfl ?_
    refine r_bd fun r1 h2 => ?_
    refine r_callV (As := []) (st := [.int x5]) C (mc_X5_cloths hk h2) cv_X5_292 hk rfl (Nat.le_of_ble_eq_true rfl) (Nat.le_of_ble_eq_true rfl) rfl (Nat.le_of_ble_eq_true rfl) dX5_passes_72 ?_
    refine r_icmpge (tgt := 123) C dX5_passes_75 (by decide) (fun h3 => ?_) (fun h3 => ?_)
    · refine r_aload_n C dX5_passes_123 rfl rfl ?_
      refine r_getA C fl_X5_113 hk dX5_passes_124 ?_
      refine r_iload_n C dX5_passes_127 rfl rfl ?_
      refine r_iconst (v := 0) C dX5_passes_128 rfl ?_
      refine r_iadd C dX5_passes_129 ?_
      refine r_ltI fun v4 => ?_
      refine r_dup2_11 C dX5_passes_130 rfl rfl ?_
      refine r_iald C (rg_662 hk) rfl dX5_passes_131 fun h5 => ?_
      refine r_iconst (v := 1) C dX5_passes_132 rfl ?_
      refine r_iadd C dX5_passes_133 ?_
      refine r_iast C (rg_662 hk) (mm_ro_of (k := 5) hk rfl) rfl dX5_passes_134 fun h6 => ?_
      refine r_ltP fun P7 => ?_
      refine r_iload C dX5_passes_135 rfl ?_
      exact r_iret C dX5_passes_137 rfl
    · refine r_aload_n C dX5_passes_78 rfl rfl ?_
      refine r_iload_n C dX5_passes_79 rfl rfl ?_
      refine r_iload C dX5_passes_80 rfl ?_
      refine r_bd fun r8 h9 => ?_
      refine r_callV (As := [.int x1, .int x5]) (st := []) C (mc_X5_isHung hk h9) cv_X5_304 hk rfl (Nat.le_of_ble_eq_true rfl) (Nat.le_of_ble_eq_true rfl) rfl (Nat.le_of_ble_eq_true rfl) dX5_passes_82 ?_
      refine r_ifeq (tgt := 117) C dX5_passes_85 (by decide) (fun h10 => ?_) (fun h10 => ?_)
      · refine r_iinc (v := 1) (ls' := [some (.ref th), some (.int x1), none, some (.int x3), some (.int x4), some (.int (x5 + (1 : Int32)))]) C dX5_passes_117 rfl rfl (Nat.le_of_ble_eq_true rfl) rfl rfl ?_
        refine r_goto (tgt := 69) C dX5_passes_120 (by decide) ?_
        exact ih x1 x3 x4 (x5 + (1 : Int32)) P
      · refine r_aload_n C dX5_passes_88 rfl rfl ?_
        refine r_getA C fl_X5_113 hk dX5_passes_89 ?_
        refine r_iload_n C dX5_passes_92 rfl rfl ?_
        refine r_iconst (v := 2) C dX5_passes_93 rfl ?_
        refine r_iadd C dX5_passes_94 ?_
        refine r_iload C dX5_passes_95 rfl ?_
        refine r_iadd C dX5_passes_97 ?_
        refine r_aload_n C dX5_passes_98 rfl rfl ?_
        refine r_iload C dX5_passes_99 rfl ?_
        refine r_aload_n C dX5_passes_101 rfl rfl ?_
        refine r_getA C fl_X5_113 hk dX5_passes_102 ?_
        refine r_iload_n C dX5_passes_105 rfl rfl ?_
        refine r_iconst (v := 2) C dX5_passes_106 rfl ?_
        refine r_iadd C dX5_passes_107 ?_
        refine r_iload C dX5_passes_108 rfl ?_
        refine r_iadd C dX5_passes_110 ?_
        refine r_iald C (rg_662 hk) rfl dX5_passes_111 fun h11 => ?_
        refine r_iload_n C dX5_passes_112 rfl rfl ?_
        refine r_bd fun r12 h13 => ?_
        refine r_callV (As := [.int x5, .int (gA P 662 th ((x1 + (2 : Int32)) + x5).toNatClampNeg), .int x3]) (st := [.int ((x1 + (2 : Int32)) + x5), .ref (th + 14)]) C (mc_X5_driedOf hk h13) cv_X5_340 hk rfl (Nat.le_of_ble_eq_true rfl) (Nat.le_of_ble_eq_true rfl) rfl (Nat.le_of_ble_eq_true rfl) dX5_passes_113 ?_
        refine r_iast C (rg_662 hk) (mm_ro_of (k := 5) hk rfl) rfl dX5_passes_116 fun h14 => ?_
        refine r_ltP fun P15 => ?_
        refine r_iinc (v := 1) (ls' := [some (.ref th), some (.int x1), none, some (.int x3), some (.int x4), some (.int (x5 + (1 : Int32)))]) C dX5_passes_117 rfl rfl (Nat.le_of_ble_eq_true rfl) rfl rfl ?_
        refine r_goto (tgt := 69) C dX5_passes_120 (by decide) ?_
        exact ih x1 x3 x4 (x5 + (1 : Int32)) P15
def fX5_passes_b20 (th : Nat)  : Nat → Int32 → Int32 → Int32 → Int32 → mm_P → Option (Int32 × mm_P)
  | 0, _, _, _, _, _ => none
  | n + 1, x1, x3, x4, x5, P =>
  mm_bd (fX5_cloths th P) fun r1 =>
  if r1 ≤ x5 then
  (fX5_passes_b69 th mm_NF x1 x3 x4 (0 : Int32) P)
  else
  (mm_bd (fX5_isHung th P x1 x5) fun r4 =>
  if r4 = 0 then
  (fX5_passes_b20 th n x1 x3 x4 (x5 + (1 : Int32)) P)
  else
  (mm_bd (fX5_pulls th x1 x5 x3 P) fun r7 =>
  if r7.1 = 0 then
  (mm_lt (x4 + (0 : Int32)) fun v10 =>
  fX5_passes_b20 th n x1 x3 v10 (x5 + (1 : Int32)) r7.2)
  else
  (mm_lt (x4 + (1 : Int32)) fun v11 =>
  fX5_passes_b20 th n x1 x3 v11 (x5 + (1 : Int32)) r7.2)))
set_option maxHeartbeats 4000000 in
theorem wfX5_passes_b20 {E : mm_E} (C : mm_Cx E RX5 cX5_passes 6 (some .int) 4 96) {K : mm_K} {th : Nat} (hk : K.1 th = 5) {nx sl : Nat} : ∀ (n : Nat), ∀ (x1 : Int32) (x3 : Int32) (x4 : Int32) (x5 : Int32) (P : mm_P), mm_V E (mm_wwI K nx sl) 20 [some (.ref th), some (.int x1), none, some (.int x3), some (.int x4), some (.int x5)] [] K P nx sl (fX5_passes_b20 th n x1 x3 x4 x5 P) := by
  intro n
  induction n with
  | zero => intro x1 x3 x4 x5 P; exact r_none
  | succ n ih =>
    intro x1 x3 x4 x5 P
    rw [fX5_passes_b20]
    refine r_iload C dX5_passes_20 rfl ?_
    refine r_aload_n C dX5_passes_22 rfl rfl ?_
    refine r_bd fun r1 h2 => ?_
    refine r_callV (As := []) (st := [.int x5]) C (mc_X5_cloths hk h2) cv_X5_292 hk rfl (Nat.le_of_ble_eq_true rfl) (Nat.le_of_ble_eq_true rfl) rfl (Nat.le_of_ble_eq_true rfl) dX5_passes_23 ?_
    refine r_icmpge (tgt := 66) C dX5_passes_26 (by decide) (fun h3 => ?_) (fun h3 => ?_)
    · refine r_iconst (v := 0) C dX5_passes_66 rfl ?_
      refine r_istore (ls' := [some (.ref th), some (.int x1), none, some (.int x3), some (.int x4), some (.int (0 : Int32))]) C dX5_passes_67 (Nat.le_of_ble_eq_true rfl) rfl rfl ?_
      exact wfX5_passes_b69 C hk mm_NF x1 x3 x4 (0 : Int32) P
    · refine r_aload_n C dX5_passes_29 rfl rfl ?_
      refine r_iload_n C dX5_passes_30 rfl rfl ?_
      refine r_iload C dX5_passes_31 rfl ?_
      refine r_bd fun r4 h5 => ?_
      refine r_callV (As := [.int x1, .int x5]) (st := []) C (mc_X5_isHung hk h5) cv_X5_304 hk rfl (Nat.le_of_ble_eq_true rfl) (Nat.le_of_ble_eq_true rfl) rfl (Nat.le_of_ble_eq_true rfl) dX5_passes_33 ?_
      refine r_ifeq (tgt := 60) C dX5_passes_36 (by decide) (fun h6 => ?_) (fun h6 => ?_)
      · refine r_iinc (v := 1) (ls' := [some (.ref th), some (.int x1), none, some (.int x3), some (.int x4), some (.int (x5 + (1 : Int32)))]) C dX5_passes_60 rfl rfl (Nat.le_of_ble_eq_true rfl) rfl rfl ?_
        refine r_goto (tgt := 20) C dX5_passes_63 (by decide) ?_
        exact ih x1 x3 x4 (x5 + (1 : Int32)) P
      · refine r_iload C dX5_passes_39 rfl ?_
        refine r_aload_n C dX5_passes_41 rfl rfl ?_
        refine r_iload_n C dX5_passes_42 rfl rfl ?_
        refine r_iload C dX5_passes_43 rfl ?_
        refine r_iload_n C dX5_passes_45 rfl rfl ?_
        refine r_bd fun r7 h8 => ?_
        refine r_callV (As := [.int x1, .int x5, .int x3]) (st := [.int x4]) C (mc_X5_pulls hk h8) cv_X5_336 hk rfl (Nat.le_of_ble_eq_true rfl) (Nat.le_of_ble_eq_true rfl) rfl (Nat.le_of_ble_eq_true rfl) dX5_passes_46 ?_
        refine r_ifeq (tgt := 56) C dX5_passes_49 (by decide) (fun h9 => ?_) (fun h9 => ?_)
        · refine r_iconst (v := 0) C dX5_passes_56 rfl ?_
          refine r_iadd C dX5_passes_57 ?_
          refine r_ltI fun v10 => ?_
          refine r_istore (ls' := [some (.ref th), some (.int x1), none, some (.int x3), some (.int v10), some (.int x5)]) C dX5_passes_58 (Nat.le_of_ble_eq_true rfl) rfl rfl ?_
          refine r_iinc (v := 1) (ls' := [some (.ref th), some (.int x1), none, some (.int x3), some (.int v10), some (.int (x5 + (1 : Int32)))]) C dX5_passes_60 rfl rfl (Nat.le_of_ble_eq_true rfl) rfl rfl ?_
          refine r_goto (tgt := 20) C dX5_passes_63 (by decide) ?_
          exact ih x1 x3 v10 (x5 + (1 : Int32)) r7.2
        · refine r_iconst (v := 1) C dX5_passes_52 rfl ?_
          refine r_goto (tgt := 57) C dX5_passes_53 (by decide) ?_
          refine r_iadd C dX5_passes_57 ?_
          refine r_ltI fun v11 => ?_
          refine r_istore (ls' := [some (.ref th), some (.int x1), none, some (.int x3), some (.int v11), some (.int x5)]) C dX5_passes_58 (Nat.le_of_ble_eq_true rfl) rfl rfl ?_
          refine r_iinc (v := 1) (ls' := [some (.ref th), some (.int x1), none, some (.int x3), some (.int v11), some (.int (x5 + (1 : Int32)))]) C dX5_passes_60 rfl rfl (Nat.le_of_ble_eq_true rfl) rfl rfl ?_
          refine r_goto (tgt := 20) C dX5_passes_63 (by decide) ?_
          exact ih x1 x3 v11 (x5 + (1 : Int32)) r7.2
def fX5_passes (th : Nat) (x1 : Int32) (x2 : Int32) (P : mm_P) : Option (Int32 × mm_P) :=
  mm_gd (mm_in (x1 + (0 : Int32)) 1242) <|
  mm_bd (fX5_windOf th P (gA P 662 th (x1 + (0 : Int32)).toNatClampNeg) x2) fun r2 =>
  fX5_passes_b20 th mm_NF x1 r2 (0 : Int32) (0 : Int32) P
set_option maxHeartbeats 4000000 in
theorem mc_X5_passes {l : Launch} {K : mm_K} {P : mm_P} {th : Nat} {x1 : Int32} {x2 : Int32} {nx sl : Nat} {r : (Int32 × mm_P)} (hk : K.1 th = 5) (h : fX5_passes th x1 x2 P = some r) : mm_C l yX5_passes (ws_ yX5_passes cX5_passes 6 (some .int)) 4 96 [.ref th, .int x1, .int x2] K P nx sl (mm_wwI K nx sl r) :=
  mm_start (ls := [some (.ref th), some (.int x1), some (.int x2), none, none, none]) h (by decide) (Nat.le_of_ble_eq_true rfl) rfl (Nat.le_refl _) (Nat.le_refl _) rfl fun E hl9 _ _ _ C => by
  have C : mm_Cx E RX5 cX5_passes 6 (some .int) 4 96 := C
  unfold fX5_passes
  refine r_aload_n C dX5_passes_0 rfl rfl ?_
  refine r_aload_n C dX5_passes_1 rfl rfl ?_
  refine r_getA C fl_X5_113 hk dX5_passes_2 ?_
  refine r_iload_n C dX5_passes_5 rfl rfl ?_
  refine r_iconst (v := 0) C dX5_passes_6 rfl ?_
  refine r_iadd C dX5_passes_7 ?_
  refine r_iald C (rg_662 hk) rfl dX5_passes_8 fun h1 => ?_
  refine r_iload_n C dX5_passes_9 rfl rfl ?_
  refine r_bd fun r2 h3 => ?_
  refine r_callV (As := [.int (gA P 662 th (x1 + (0 : Int32)).toNatClampNeg), .int x2]) (st := []) C (mc_X5_windOf hk h3) cv_X5_332 hk rfl (Nat.le_of_ble_eq_true rfl) (Nat.le_of_ble_eq_true rfl) rfl (Nat.le_of_ble_eq_true rfl) dX5_passes_10 ?_
  refine r_istore_n (ls' := [some (.ref th), some (.int x1), some (.int x2), some (.int r2), none, none]) C dX5_passes_13 rfl (Nat.le_of_ble_eq_true rfl) rfl rfl ?_
  refine r_iconst (v := 0) C dX5_passes_14 rfl ?_
  refine r_istore (ls' := [some (.ref th), some (.int x1), some (.int x2), some (.int r2), some (.int (0 : Int32)), none]) C dX5_passes_15 (Nat.le_of_ble_eq_true rfl) rfl rfl ?_
  refine r_iconst (v := 0) C dX5_passes_17 rfl ?_
  refine r_istore (ls' := [some (.ref th), some (.int x1), some (.int x2), some (.int r2), some (.int (0 : Int32)), some (.int (0 : Int32))]) C dX5_passes_18 (Nat.le_of_ble_eq_true rfl) rfl rfl ?_
  refine r_mask [true, true, false, true, true, true] (ls' := [some (.ref th), some (.int x1), none, some (.int r2), some (.int (0 : Int32)), some (.int (0 : Int32))]) rfl ?_
  exact wfX5_passes_b20 C hk mm_NF x1 r2 (0 : Int32) (0 : Int32) P
/-! hour -/
def fX5_hour (th : Nat)  (P : mm_P) : Option (Int32 × mm_P) :=
  mm_lt (sI P 640 th (0 : Int32)) fun P1 =>
  mm_bd (fX5_keeps th P1) fun r2 =>
  mm_bd (fX5_passes th (0 : Int32) (0 : Int32) r2) fun r4 =>
  some (r4.1, r4.2)
set_option maxHeartbeats 4000000 in
theorem mc_X5_hour {l : Launch} {K : mm_K} {P : mm_P} {th : Nat}  {nx sl : Nat} {r : (Int32 × mm_P)} (hk : K.1 th = 5) (h : fX5_hour th P = some r) : mm_C l yX5_hour (ws_ yX5_hour cX5_hour 1 (some .int)) 5 121 [.ref th] K P nx sl (mm_wwI K nx sl r) :=
  mm_start (ls := [some (.ref th)]) h (by decide) (Nat.le_of_ble_eq_true rfl) rfl (Nat.le_refl _) (Nat.le_refl _) rfl fun E hl9 _ _ _ C => by
  have C : mm_Cx E RX5 cX5_hour 1 (some .int) 5 121 := C
  unfold fX5_hour
  refine r_aload_n C dX5_hour_0 rfl rfl ?_
  refine r_iconst (v := 0) C dX5_hour_1 rfl ?_
  refine r_putI (code := 640) C fl_X5_1 hk rfl rfl dX5_hour_2 ?_
  refine r_ltP fun P1 => ?_
  refine r_aload_n C dX5_hour_5 rfl rfl ?_
  refine r_bd fun r2 h3 => ?_
  refine r_callVv (As := []) (st := []) C (mc_X5_keeps hk h3) cv_X5_370 hk rfl (Nat.le_of_ble_eq_true rfl) (Nat.le_of_ble_eq_true rfl) rfl (Nat.le_of_ble_eq_true rfl) dX5_hour_6 ?_
  refine r_aload_n C dX5_hour_9 rfl rfl ?_
  refine r_iconst (v := 0) C dX5_hour_10 rfl ?_
  refine r_iconst (v := 0) C dX5_hour_11 rfl ?_
  refine r_bd fun r4 h5 => ?_
  refine r_callV (As := [.int (0 : Int32), .int (0 : Int32)]) (st := []) C (mc_X5_passes hk h5) cv_X5_379 hk rfl (Nat.le_of_ble_eq_true rfl) (Nat.le_of_ble_eq_true rfl) rfl (Nat.le_of_ble_eq_true rfl) dX5_hour_12 ?_
  exact r_iret C dX5_hour_15 rfl
/-! undo -/
def fX5_undo (th : Nat)  (P : mm_P) : Option (Int32 × mm_P) :=
  mm_lt (sI P 640 th (0 : Int32)) fun P1 =>
  if (gI P1 663 th) ≠ 0 then
  (mm_lt (sI P1 663 th ((gI P1 663 th) - (1 : Int32))) fun P3 =>
  mm_bd (fX5_copies th ((54 : Int32) * ((5 : Int32) + (gI P3 663 th))) (0 : Int32) (28 : Int32) P3) fun r4 =>
  some ((1 : Int32), r4))
  else
  (some ((0 : Int32), P1))
set_option maxHeartbeats 4000000 in
theorem mc_X5_undo {l : Launch} {K : mm_K} {P : mm_P} {th : Nat}  {nx sl : Nat} {r : (Int32 × mm_P)} (hk : K.1 th = 5) (h : fX5_undo th P = some r) : mm_C l yX5_undo (ws_ yX5_undo cX5_undo 1 (some .boolean)) 1 24 [.ref th] K P nx sl (mm_wwI K nx sl r) :=
  mm_start (ls := [some (.ref th)]) h (by decide) (Nat.le_of_ble_eq_true rfl) rfl (Nat.le_refl _) (Nat.le_refl _) rfl fun E hl9 _ _ _ C => by
  have C : mm_Cx E RX5 cX5_undo 1 (some .boolean) 1 24 := C
  unfold fX5_undo
  refine r_aload_n C dX5_undo_0 rfl rfl ?_
  refine r_iconst (v := 0) C dX5_undo_1 rfl ?_
  refine r_putI (code := 640) C fl_X5_1 hk rfl rfl dX5_undo_2 ?_
  refine r_ltP fun P1 => ?_
  refine r_aload_n C dX5_undo_5 rfl rfl ?_
  refine r_getI (code := 663) C fl_X5_285 hk rfl dX5_undo_6 ?_
  refine r_ifne (tgt := 14) C dX5_undo_9 (by decide) (fun h2 => ?_) (fun h2 => ?_)
  · refine r_aload_n C dX5_undo_14 rfl rfl ?_
    refine r_dup C dX5_undo_15 rfl ?_
    refine r_getI (code := 663) C fl_X5_285 hk rfl dX5_undo_16 ?_
    refine r_iconst (v := 1) C dX5_undo_19 rfl ?_
    refine r_isub C dX5_undo_20 ?_
    refine r_putI (code := 663) C fl_X5_285 hk rfl rfl dX5_undo_21 ?_
    refine r_ltP fun P3 => ?_
    refine r_aload_n C dX5_undo_24 rfl rfl ?_
    refine r_bipush (v := 54) C dX5_undo_25 rfl ?_
    refine r_iconst (v := 5) C dX5_undo_27 rfl ?_
    refine r_aload_n C dX5_undo_28 rfl rfl ?_
    refine r_getI (code := 663) C fl_X5_285 hk rfl dX5_undo_29 ?_
    refine r_iadd C dX5_undo_32 ?_
    refine r_imul C dX5_undo_33 ?_
    refine r_iconst (v := 0) C dX5_undo_34 rfl ?_
    refine r_bipush (v := 28) C dX5_undo_35 rfl ?_
    refine r_bd fun r4 h5 => ?_
    refine r_callVv (As := [.int ((54 : Int32) * ((5 : Int32) + (gI P3 663 th))), .int (0 : Int32), .int (28 : Int32)]) (st := []) C (mc_X5_copies hk h5) cv_X5_288 hk rfl (Nat.le_of_ble_eq_true rfl) (Nat.le_of_ble_eq_true rfl) rfl (Nat.le_of_ble_eq_true rfl) dX5_undo_37 ?_
    refine r_iconst (v := 1) C dX5_undo_40 rfl ?_
    exact r_zret C dX5_undo_41 rfl rfl
  · refine r_iconst (v := 0) C dX5_undo_12 rfl ?_
    exact r_zret C dX5_undo_13 rfl rfl
/-! does -/
def fX5_does_b130 (th : Nat)  (x2 : Int32) (x4 : Int32) (P : mm_P) : Option (Int32 × mm_P) :=
  if x4 = 0 then
  (mm_gd (x4 &&& 1 = x4) <|
  some (x4, P))
  else
  (mm_bd (fX5_buys th (1134 : Int32) x2 P) fun r3 =>
  mm_gd (x4 &&& 1 = x4) <|
  some (x4, r3.2))
set_option maxHeartbeats 4000000 in
theorem wfX5_does_b130 {E : mm_E} (C : mm_Cx E RX5 cX5_does 5 (some .boolean) 4 92) {K : mm_K} {th : Nat} (hk : K.1 th = 5) {nx sl : Nat} (x2 : Int32) (x4 : Int32) (P : mm_P) : mm_V E (mm_wwI K nx sl) 130 [some (.ref th), none, some (.int x2), none, some (.int x4)] [] K P nx sl (fX5_does_b130 th x2 x4 P) := by
  unfold fX5_does_b130
  refine r_iload C dX5_does_130 rfl ?_
  refine r_ifeq (tgt := 144) C dX5_does_132 (by decide) (fun h1 => ?_) (fun h1 => ?_)
  · refine r_iload C dX5_does_144 rfl ?_
    refine r_gd fun h2 => ?_
    exact r_zret C dX5_does_146 (mm_nz h2) rfl
  · refine r_aload_n C dX5_does_135 rfl rfl ?_
    refine r_sipush (v := 1134) C dX5_does_136 rfl ?_
    refine r_iload_n C dX5_does_139 rfl rfl ?_
    refine r_bd fun r3 h4 => ?_
    refine r_callV (As := [.int (1134 : Int32), .int x2]) (st := []) C (mc_X5_buys hk h4) cv_X5_376 hk rfl (Nat.le_of_ble_eq_true rfl) (Nat.le_of_ble_eq_true rfl) rfl (Nat.le_of_ble_eq_true rfl) dX5_does_140 ?_
    refine r_pop C dX5_does_143 rfl ?_
    refine r_iload C dX5_does_144 rfl ?_
    refine r_gd fun h5 => ?_
    exact r_zret C dX5_does_146 (mm_nz h5) rfl
def fX5_does_b108 (th : Nat)  (x1 : Int32) (x2 : Int32) (x4 : Int32) (P : mm_P) : Option (Int32 × mm_P) :=
  if x4 = 0 then
  (fX5_does_b130 th x2 x4 P)
  else
  (if x1 ≠ (2 : Int32) then
  (fX5_does_b130 th x2 x4 P)
  else
  (mm_bd (fX5_washes th (1134 : Int32) x2 P) fun r3 =>
  mm_gd (x4 &&& 1 = x4) <|
  some (x4, r3.2)))
set_option maxHeartbeats 4000000 in
theorem wfX5_does_b108 {E : mm_E} (C : mm_Cx E RX5 cX5_does 5 (some .boolean) 4 92) {K : mm_K} {th : Nat} (hk : K.1 th = 5) {nx sl : Nat} (x1 : Int32) (x2 : Int32) (x4 : Int32) (P : mm_P) : mm_V E (mm_wwI K nx sl) 108 [some (.ref th), some (.int x1), some (.int x2), none, some (.int x4)] [] K P nx sl (fX5_does_b108 th x1 x2 x4 P) := by
  unfold fX5_does_b108
  refine r_iload C dX5_does_108 rfl ?_
  refine r_ifeq (tgt := 130) C dX5_does_110 (by decide) (fun h1 => ?_) (fun h1 => ?_)
  · refine r_mask [true, false, true, true, true] (ls' := [some (.ref th), none, some (.int x2), none, some (.int x4)]) rfl ?_
    exact wfX5_does_b130 C hk x2 x4 P
  · refine r_iload_n C dX5_does_113 rfl rfl ?_
    refine r_iconst (v := 2) C dX5_does_114 rfl ?_
    refine r_icmpne (tgt := 130) C dX5_does_115 (by decide) (fun h2 => ?_) (fun h2 => ?_)
    · refine r_mask [true, false, true, true, true] (ls' := [some (.ref th), none, some (.int x2), none, some (.int x4)]) rfl ?_
      exact wfX5_does_b130 C hk x2 x4 P
    · refine r_aload_n C dX5_does_118 rfl rfl ?_
      refine r_sipush (v := 1134) C dX5_does_119 rfl ?_
      refine r_iload_n C dX5_does_122 rfl rfl ?_
      refine r_bd fun r3 h4 => ?_
      refine r_callV (As := [.int (1134 : Int32), .int x2]) (st := []) C (mc_X5_washes hk h4) cv_X5_373 hk rfl (Nat.le_of_ble_eq_true rfl) (Nat.le_of_ble_eq_true rfl) rfl (Nat.le_of_ble_eq_true rfl) dX5_does_123 ?_
      refine r_pop C dX5_does_126 rfl ?_
      refine r_goto (tgt := 144) C dX5_does_127 (by decide) ?_
      refine r_iload C dX5_does_144 rfl ?_
      refine r_gd fun h5 => ?_
      exact r_zret C dX5_does_146 (mm_nz h5) rfl
def fX5_does_b74 (th : Nat)  (x1 : Int32) (x2 : Int32) (x3 : Int32) (s0 : Int32) (P : mm_P) : Option (Int32 × mm_P) :=
  if s0 = 0 then
  (fX5_does_b108 th x1 x2 s0 P)
  else
  (if (2 : Int32) ≤ x1 then
  (fX5_does_b108 th x1 x2 s0 P)
  else
  (if x1 ≠ 0 then
  (mm_gd (mm_in ((1148 : Int32) + x2) 1242) <|
  mm_lt (sA P 662 th ((1148 : Int32) + x2).toNatClampNeg (0 : Int32)) fun P5 =>
  mm_gd (s0 &&& 1 = s0) <|
  some (s0, P5))
  else
  (mm_gd (mm_in ((1148 : Int32) + x2) 1242) <|
  mm_lt (sA P 662 th ((1148 : Int32) + x2).toNatClampNeg x3) fun P8 =>
  mm_gd (s0 &&& 1 = s0) <|
  some (s0, P8))))
set_option maxHeartbeats 4000000 in
theorem wfX5_does_b74 {E : mm_E} (C : mm_Cx E RX5 cX5_does 5 (some .boolean) 4 92) {K : mm_K} {th : Nat} (hk : K.1 th = 5) {nx sl : Nat} (x1 : Int32) (x2 : Int32) (x3 : Int32) (s0 : Int32) (P : mm_P) : mm_V E (mm_wwI K nx sl) 74 [some (.ref th), some (.int x1), some (.int x2), some (.int x3), none] [.int s0] K P nx sl (fX5_does_b74 th x1 x2 x3 s0 P) := by
  unfold fX5_does_b74
  refine r_istore (ls' := [some (.ref th), some (.int x1), some (.int x2), some (.int x3), some (.int s0)]) C dX5_does_74 (Nat.le_of_ble_eq_true rfl) rfl rfl ?_
  refine r_iload C dX5_does_76 rfl ?_
  refine r_ifeq (tgt := 108) C dX5_does_78 (by decide) (fun h1 => ?_) (fun h1 => ?_)
  · refine r_mask [true, true, true, false, true] (ls' := [some (.ref th), some (.int x1), some (.int x2), none, some (.int s0)]) rfl ?_
    exact wfX5_does_b108 C hk x1 x2 s0 P
  · refine r_iload_n C dX5_does_81 rfl rfl ?_
    refine r_iconst (v := 2) C dX5_does_82 rfl ?_
    refine r_icmpge (tgt := 108) C dX5_does_83 (by decide) (fun h2 => ?_) (fun h2 => ?_)
    · refine r_mask [true, true, true, false, true] (ls' := [some (.ref th), some (.int x1), some (.int x2), none, some (.int s0)]) rfl ?_
      exact wfX5_does_b108 C hk x1 x2 s0 P
    · refine r_aload_n C dX5_does_86 rfl rfl ?_
      refine r_getA C fl_X5_113 hk dX5_does_87 ?_
      refine r_sipush (v := 1148) C dX5_does_90 rfl ?_
      refine r_iload_n C dX5_does_93 rfl rfl ?_
      refine r_iadd C dX5_does_94 ?_
      refine r_iload_n C dX5_does_95 rfl rfl ?_
      refine r_ifne (tgt := 103) C dX5_does_96 (by decide) (fun h3 => ?_) (fun h3 => ?_)
      · refine r_iconst (v := 0) C dX5_does_103 rfl ?_
        refine r_iast C (rg_662 hk) (mm_ro_of (k := 5) hk rfl) rfl dX5_does_104 fun h4 => ?_
        refine r_ltP fun P5 => ?_
        refine r_goto (tgt := 144) C dX5_does_105 (by decide) ?_
        refine r_iload C dX5_does_144 rfl ?_
        refine r_gd fun h6 => ?_
        exact r_zret C dX5_does_146 (mm_nz h6) rfl
      · refine r_iload_n C dX5_does_99 rfl rfl ?_
        refine r_goto (tgt := 104) C dX5_does_100 (by decide) ?_
        refine r_iast C (rg_662 hk) (mm_ro_of (k := 5) hk rfl) rfl dX5_does_104 fun h7 => ?_
        refine r_ltP fun P8 => ?_
        refine r_goto (tgt := 144) C dX5_does_105 (by decide) ?_
        refine r_iload C dX5_does_144 rfl ?_
        refine r_gd fun h9 => ?_
        exact r_zret C dX5_does_146 (mm_nz h9) rfl
def fX5_does (th : Nat) (x1 : Int32) (x2 : Int32) (x3 : Int32) (P : mm_P) : Option (Int32 × mm_P) :=
  if x1 ≠ 0 then
  (if x1 ≠ (1 : Int32) then
  (if x1 ≠ (2 : Int32) then
  (mm_gd (mm_in (1135 : Int32) 1242) <|
  if (8 : Int32) ≤ (gA P 662 th (1135 : Int32).toNatClampNeg) then
  (fX5_does_b74 th x1 x2 x3 (0 : Int32) P)
  else
  (fX5_does_b74 th x1 x2 x3 (1 : Int32) P))
  else
  (mm_bd (fX5_isHung th P (1134 : Int32) x2) fun r6 =>
  if r6 ≠ 0 then
  (fX5_does_b74 th x1 x2 x3 (0 : Int32) P)
  else
  (fX5_does_b74 th x1 x2 x3 (1 : Int32) P)))
  else
  (mm_bd (fX5_isHung th P (1134 : Int32) x2) fun r9 =>
  fX5_does_b74 th x1 x2 x3 r9 P))
  else
  (mm_bd (fX5_mayHang th P (1134 : Int32) x2 x3) fun r11 =>
  fX5_does_b74 th x1 x2 x3 r11 P)
set_option maxHeartbeats 4000000 in
theorem mc_X5_does {l : Launch} {K : mm_K} {P : mm_P} {th : Nat} {x1 : Int32} {x2 : Int32} {x3 : Int32} {nx sl : Nat} {r : (Int32 × mm_P)} (hk : K.1 th = 5) (h : fX5_does th x1 x2 x3 P = some r) : mm_C l yX5_does (ws_ yX5_does cX5_does 5 (some .boolean)) 4 92 [.ref th, .int x1, .int x2, .int x3] K P nx sl (mm_wwI K nx sl r) :=
  mm_start (ls := [some (.ref th), some (.int x1), some (.int x2), some (.int x3), none]) h (by decide) (Nat.le_of_ble_eq_true rfl) rfl (Nat.le_refl _) (Nat.le_refl _) rfl fun E hl9 _ _ _ C => by
  have C : mm_Cx E RX5 cX5_does 5 (some .boolean) 4 92 := C
  unfold fX5_does
  refine r_iload_n C dX5_does_0 rfl rfl ?_
  refine r_ifne (tgt := 16) C dX5_does_1 (by decide) (fun h1 => ?_) (fun h1 => ?_)
  · refine r_iload_n C dX5_does_16 rfl rfl ?_
    refine r_iconst (v := 1) C dX5_does_17 rfl ?_
    refine r_icmpne (tgt := 32) C dX5_does_18 (by decide) (fun h2 => ?_) (fun h2 => ?_)
    · refine r_iload_n C dX5_does_32 rfl rfl ?_
      refine r_iconst (v := 2) C dX5_does_33 rfl ?_
      refine r_icmpne (tgt := 56) C dX5_does_34 (by decide) (fun h3 => ?_) (fun h3 => ?_)
      · refine r_aload_n C dX5_does_56 rfl rfl ?_
        refine r_getA C fl_X5_113 hk dX5_does_57 ?_
        refine r_sipush (v := 1135) C dX5_does_60 rfl ?_
        refine r_iald C (rg_662 hk) rfl dX5_does_63 fun h4 => ?_
        refine r_bipush (v := 8) C dX5_does_64 rfl ?_
        refine r_icmpge (tgt := 73) C dX5_does_66 (by decide) (fun h5 => ?_) (fun h5 => ?_)
        · refine r_iconst (v := 0) C dX5_does_73 rfl ?_
          exact wfX5_does_b74 C hk x1 x2 x3 (0 : Int32) P
        · refine r_iconst (v := 1) C dX5_does_69 rfl ?_
          refine r_goto (tgt := 74) C dX5_does_70 (by decide) ?_
          exact wfX5_does_b74 C hk x1 x2 x3 (1 : Int32) P
      · refine r_aload_n C dX5_does_37 rfl rfl ?_
        refine r_sipush (v := 1134) C dX5_does_38 rfl ?_
        refine r_iload_n C dX5_does_41 rfl rfl ?_
        refine r_bd fun r6 h7 => ?_
        refine r_callV (As := [.int (1134 : Int32), .int x2]) (st := []) C (mc_X5_isHung hk h7) cv_X5_304 hk rfl (Nat.le_of_ble_eq_true rfl) (Nat.le_of_ble_eq_true rfl) rfl (Nat.le_of_ble_eq_true rfl) dX5_does_42 ?_
        refine r_ifne (tgt := 52) C dX5_does_45 (by decide) (fun h8 => ?_) (fun h8 => ?_)
        · refine r_iconst (v := 0) C dX5_does_52 rfl ?_
          refine r_goto (tgt := 74) C dX5_does_53 (by decide) ?_
          exact wfX5_does_b74 C hk x1 x2 x3 (0 : Int32) P
        · refine r_iconst (v := 1) C dX5_does_48 rfl ?_
          refine r_goto (tgt := 74) C dX5_does_49 (by decide) ?_
          exact wfX5_does_b74 C hk x1 x2 x3 (1 : Int32) P
    · refine r_aload_n C dX5_does_21 rfl rfl ?_
      refine r_sipush (v := 1134) C dX5_does_22 rfl ?_
      refine r_iload_n C dX5_does_25 rfl rfl ?_
      refine r_bd fun r9 h10 => ?_
      refine r_callV (As := [.int (1134 : Int32), .int x2]) (st := []) C (mc_X5_isHung hk h10) cv_X5_304 hk rfl (Nat.le_of_ble_eq_true rfl) (Nat.le_of_ble_eq_true rfl) rfl (Nat.le_of_ble_eq_true rfl) dX5_does_26 ?_
      refine r_goto (tgt := 74) C dX5_does_29 (by decide) ?_
      exact wfX5_does_b74 C hk x1 x2 x3 r9 P
  · refine r_aload_n C dX5_does_4 rfl rfl ?_
    refine r_sipush (v := 1134) C dX5_does_5 rfl ?_
    refine r_iload_n C dX5_does_8 rfl rfl ?_
    refine r_iload_n C dX5_does_9 rfl rfl ?_
    refine r_bd fun r11 h12 => ?_
    refine r_callV (As := [.int (1134 : Int32), .int x2, .int x3]) (st := []) C (mc_X5_mayHang hk h12) cv_X5_367 hk rfl (Nat.le_of_ble_eq_true rfl) (Nat.le_of_ble_eq_true rfl) rfl (Nat.le_of_ble_eq_true rfl) dX5_does_10 ?_
    refine r_goto (tgt := 74) C dX5_does_13 (by decide) ?_
    exact wfX5_does_b74 C hk x1 x2 x3 r11 P
/-! worthOf -/
def fX5_worthOf_b4 (th : Nat) (P : mm_P)  : Nat → Int32 → Int32 → Int32 → Option Int32
  | 0, _, _, _ => none
  | n + 1, x1, x2, x3 =>
  mm_bd (fX5_cloths th P) fun r1 =>
  if r1 ≤ x3 then
  (some (x2))
  else
  (if ((mm_shr x1 x3) &&& (1 : Int32)) ≠ (1 : Int32) then
  (mm_lt (x2 + (0 : Int32)) fun v5 =>
  fX5_worthOf_b4 th P n x1 v5 (x3 + (1 : Int32)))
  else
  (mm_bd (fX5_clothOf th P x3 (3 : Int32)) fun r6 =>
  mm_lt (x2 + r6) fun v8 =>
  fX5_worthOf_b4 th P n x1 v8 (x3 + (1 : Int32))))
set_option maxHeartbeats 4000000 in
theorem wfX5_worthOf_b4 {E : mm_E} (C : mm_Cx E RX5 cX5_worthOf 4 (some .int) 1 22) {K : mm_K} {th : Nat} (hk : K.1 th = 5) {P : mm_P} {nx sl : Nat} : ∀ (n : Nat), ∀ (x1 : Int32) (x2 : Int32) (x3 : Int32), mm_V E (mm_wrI K P nx sl) 4 [some (.ref th), some (.int x1), some (.int x2), some (.int x3)] [] K P nx sl (fX5_worthOf_b4 th P n x1 x2 x3) := by
  intro n
  induction n with
  | zero => intro x1 x2 x3; exact r_none
  | succ n ih =>
    intro x1 x2 x3
    rw [fX5_worthOf_b4]
    refine r_iload_n C dX5_worthOf_4 rfl rfl ?_
    refine r_aload_n C dX5_worthOf_5 rfl rfl ?_
    refine r_bd fun r1 h2 => ?_
    refine r_callV (As := []) (st := [.int x3]) C (mc_X5_cloths hk h2) cv_X5_292 hk rfl (Nat.le_of_ble_eq_true rfl) (Nat.le_of_ble_eq_true rfl) rfl (Nat.le_of_ble_eq_true rfl) dX5_worthOf_6 ?_
    refine r_icmpge (tgt := 40) C dX5_worthOf_9 (by decide) (fun h3 => ?_) (fun h3 => ?_)
    · refine r_iload_n C dX5_worthOf_40 rfl rfl ?_
      exact r_iret C dX5_worthOf_41 rfl
    · refine r_iload_n C dX5_worthOf_12 rfl rfl ?_
      refine r_iload_n C dX5_worthOf_13 rfl rfl ?_
      refine r_iload_n C dX5_worthOf_14 rfl rfl ?_
      refine r_ishr C dX5_worthOf_15 ?_
      refine r_iconst (v := 1) C dX5_worthOf_16 rfl ?_
      refine r_iand C dX5_worthOf_17 ?_
      refine r_iconst (v := 1) C dX5_worthOf_18 rfl ?_
      refine r_icmpne (tgt := 31) C dX5_worthOf_19 (by decide) (fun h4 => ?_) (fun h4 => ?_)
      · refine r_iconst (v := 0) C dX5_worthOf_31 rfl ?_
        refine r_iadd C dX5_worthOf_32 ?_
        refine r_ltI fun v5 => ?_
        refine r_istore_n (ls' := [some (.ref th), some (.int x1), some (.int v5), some (.int x3)]) C dX5_worthOf_33 rfl (Nat.le_of_ble_eq_true rfl) rfl rfl ?_
        refine r_iinc (v := 1) (ls' := [some (.ref th), some (.int x1), some (.int v5), some (.int (x3 + (1 : Int32)))]) C dX5_worthOf_34 rfl rfl (Nat.le_of_ble_eq_true rfl) rfl rfl ?_
        refine r_goto (tgt := 4) C dX5_worthOf_37 (by decide) ?_
        exact ih x1 v5 (x3 + (1 : Int32))
      · refine r_aload_n C dX5_worthOf_22 rfl rfl ?_
        refine r_iload_n C dX5_worthOf_23 rfl rfl ?_
        refine r_iconst (v := 3) C dX5_worthOf_24 rfl ?_
        refine r_bd fun r6 h7 => ?_
        refine r_callV (As := [.int x3, .int (3 : Int32)]) (st := [.int x2]) C (mc_X5_clothOf hk h7) cv_X5_295 hk rfl (Nat.le_of_ble_eq_true rfl) (Nat.le_of_ble_eq_true rfl) rfl (Nat.le_of_ble_eq_true rfl) dX5_worthOf_25 ?_
        refine r_goto (tgt := 32) C dX5_worthOf_28 (by decide) ?_
        refine r_iadd C dX5_worthOf_32 ?_
        refine r_ltI fun v8 => ?_
        refine r_istore_n (ls' := [some (.ref th), some (.int x1), some (.int v8), some (.int x3)]) C dX5_worthOf_33 rfl (Nat.le_of_ble_eq_true rfl) rfl rfl ?_
        refine r_iinc (v := 1) (ls' := [some (.ref th), some (.int x1), some (.int v8), some (.int (x3 + (1 : Int32)))]) C dX5_worthOf_34 rfl rfl (Nat.le_of_ble_eq_true rfl) rfl rfl ?_
        refine r_goto (tgt := 4) C dX5_worthOf_37 (by decide) ?_
        exact ih x1 v8 (x3 + (1 : Int32))
def fX5_worthOf (th : Nat) (P : mm_P) (x1 : Int32) : Option Int32 :=
  fX5_worthOf_b4 th P mm_NF x1 (0 : Int32) (0 : Int32)
set_option maxHeartbeats 4000000 in
theorem mc_X5_worthOf {l : Launch} {K : mm_K} {P : mm_P} {th : Nat} {x1 : Int32} {nx sl : Nat} {r : Int32} (hk : K.1 th = 5) (h : fX5_worthOf th P x1 = some r) : mm_C l yX5_worthOf (ws_ yX5_worthOf cX5_worthOf 4 (some .int)) 1 22 [.ref th, .int x1] K P nx sl (mm_wrI K P nx sl r) :=
  mm_start (ls := [some (.ref th), some (.int x1), none, none]) h (by decide) (Nat.le_of_ble_eq_true rfl) rfl (Nat.le_refl _) (Nat.le_refl _) rfl fun E hl9 _ _ _ C => by
  have C : mm_Cx E RX5 cX5_worthOf 4 (some .int) 1 22 := C
  unfold fX5_worthOf
  refine r_iconst (v := 0) C dX5_worthOf_0 rfl ?_
  refine r_istore_n (ls' := [some (.ref th), some (.int x1), some (.int (0 : Int32)), none]) C dX5_worthOf_1 rfl (Nat.le_of_ble_eq_true rfl) rfl rfl ?_
  refine r_iconst (v := 0) C dX5_worthOf_2 rfl ?_
  refine r_istore_n (ls' := [some (.ref th), some (.int x1), some (.int (0 : Int32)), some (.int (0 : Int32))]) C dX5_worthOf_3 rfl (Nat.le_of_ble_eq_true rfl) rfl rfl ?_
  exact wfX5_worthOf_b4 C hk mm_NF x1 (0 : Int32) (0 : Int32)
/-! judged -/
def fX5_judged_b31 (th : Nat)  : Nat → Int32 → Int32 → Int32 → Int32 → mm_P → Option (Int32 × mm_P)
  | 0, _, _, _, _, _ => none
  | n + 1, x1, x2, x3, x4, P =>
  mm_gd (mm_in (0 : Int32) 200) <|
  if (gA P 659 th (0 : Int32).toNatClampNeg) ≤ x4 then
  (if x1 ≠ 0 then
  (if x1 ≠ (1 : Int32) then
  (mm_bd (fX5_lawsOf th P (1134 : Int32)) fun r5 =>
  mm_bd (fX5_worthOf th P r5) fun r7 =>
  some (r7, P))
  else
  (some (x3, P)))
  else
  (some (x2, P)))
  else
  (mm_gd (mm_in ((1 : Int32) + ((3 : Int32) * x4)) 200) <|
  mm_lt (gA P 659 th ((1 : Int32) + ((3 : Int32) * x4)).toNatClampNeg) fun v10 =>
  if v10 ≠ (4 : Int32) then
  (mm_gd (mm_in ((2 : Int32) + ((3 : Int32) * x4)) 200) <|
  mm_gd (mm_in ((3 : Int32) + ((3 : Int32) * x4)) 200) <|
  mm_bd (fX5_does th v10 (gA P 659 th ((2 : Int32) + ((3 : Int32) * x4)).toNatClampNeg) (gA P 659 th ((3 : Int32) + ((3 : Int32) * x4)).toNatClampNeg) P) fun r14 =>
  if r14.1 ≠ 0 then
  (fX5_judged_b31 th n x1 x2 x3 (x4 + (1 : Int32)) r14.2)
  else
  (if 0 ≤ x2 then
  (fX5_judged_b31 th n x1 x2 x3 (x4 + (1 : Int32)) r14.2)
  else
  (fX5_judged_b31 th n x1 x4 x3 (x4 + (1 : Int32)) r14.2)))
  else
  (mm_bd (fX5_passes th (1134 : Int32) (0 : Int32) P) fun r18 =>
  if r18.1 ≤ 0 then
  (fX5_judged_b31 th n x1 x2 x3 (x4 + (1 : Int32)) r18.2)
  else
  (if 0 ≤ x3 then
  (fX5_judged_b31 th n x1 x2 x3 (x4 + (1 : Int32)) r18.2)
  else
  (fX5_judged_b31 th n x1 x2 x4 (x4 + (1 : Int32)) r18.2))))
set_option maxHeartbeats 4000000 in
theorem wfX5_judged_b31 {E : mm_E} (C : mm_Cx E RX5 cX5_judged 7 (some .int) 5 121) {K : mm_K} {th : Nat} (hk : K.1 th = 5) {nx sl : Nat} : ∀ (n : Nat), ∀ (x1 : Int32) (x2 : Int32) (x3 : Int32) (x4 : Int32) (P : mm_P), mm_V E (mm_wwI K nx sl) 31 [some (.ref th), some (.int x1), some (.int x2), some (.int x3), some (.int x4), none, none] [] K P nx sl (fX5_judged_b31 th n x1 x2 x3 x4 P) := by
  intro n
  induction n with
  | zero => intro x1 x2 x3 x4 P; exact r_none
  | succ n ih =>
    intro x1 x2 x3 x4 P
    rw [fX5_judged_b31]
    refine r_iload C dX5_judged_31 rfl ?_
    refine r_aload_n C dX5_judged_33 rfl rfl ?_
    refine r_getA C fl_X5_104 hk dX5_judged_34 ?_
    refine r_iconst (v := 0) C dX5_judged_37 rfl ?_
    refine r_iald C (rg_659 hk) rfl dX5_judged_38 fun h1 => ?_
    refine r_icmpge (tgt := 142) C dX5_judged_39 (by decide) (fun h2 => ?_) (fun h2 => ?_)
    · refine r_iload_n C dX5_judged_142 rfl rfl ?_
      refine r_ifne (tgt := 150) C dX5_judged_143 (by decide) (fun h3 => ?_) (fun h3 => ?_)
      · refine r_iload_n C dX5_judged_150 rfl rfl ?_
        refine r_iconst (v := 1) C dX5_judged_151 rfl ?_
        refine r_icmpne (tgt := 159) C dX5_judged_152 (by decide) (fun h4 => ?_) (fun h4 => ?_)
        · refine r_aload_n C dX5_judged_159 rfl rfl ?_
          refine r_aload_n C dX5_judged_160 rfl rfl ?_
          refine r_sipush (v := 1134) C dX5_judged_161 rfl ?_
          refine r_bd fun r5 h6 => ?_
          refine r_callV (As := [.int (1134 : Int32)]) (st := [.ref th]) C (mc_X5_lawsOf hk h6) cv_X5_358 hk rfl (Nat.le_of_ble_eq_true rfl) (Nat.le_of_ble_eq_true rfl) rfl (Nat.le_of_ble_eq_true rfl) dX5_judged_164 ?_
          refine r_bd fun r7 h8 => ?_
          refine r_callV (As := [.int r5]) (st := []) C (mc_X5_worthOf hk h8) cv_X5_385 hk rfl (Nat.le_of_ble_eq_true rfl) (Nat.le_of_ble_eq_true rfl) rfl (Nat.le_of_ble_eq_true rfl) dX5_judged_167 ?_
          exact r_iret C dX5_judged_170 rfl
        · refine r_iload_n C dX5_judged_155 rfl rfl ?_
          refine r_goto (tgt := 170) C dX5_judged_156 (by decide) ?_
          exact r_iret C dX5_judged_170 rfl
      · refine r_iload_n C dX5_judged_146 rfl rfl ?_
        refine r_goto (tgt := 170) C dX5_judged_147 (by decide) ?_
        exact r_iret C dX5_judged_170 rfl
    · refine r_aload_n C dX5_judged_42 rfl rfl ?_
      refine r_getA C fl_X5_104 hk dX5_judged_43 ?_
      refine r_iconst (v := 1) C dX5_judged_46 rfl ?_
      refine r_iconst (v := 3) C dX5_judged_47 rfl ?_
      refine r_iload C dX5_judged_48 rfl ?_
      refine r_imul C dX5_judged_50 ?_
      refine r_iadd C dX5_judged_51 ?_
      refine r_iald C (rg_659 hk) rfl dX5_judged_52 fun h9 => ?_
      refine r_ltI fun v10 => ?_
      refine r_istore (ls' := [some (.ref th), some (.int x1), some (.int x2), some (.int x3), some (.int x4), some (.int v10), none]) C dX5_judged_53 (Nat.le_of_ble_eq_true rfl) rfl rfl ?_
      refine r_iload C dX5_judged_55 rfl ?_
      refine r_iconst (v := 4) C dX5_judged_57 rfl ?_
      refine r_icmpne (tgt := 90) C dX5_judged_58 (by decide) (fun h11 => ?_) (fun h11 => ?_)
      · refine r_aload_n C dX5_judged_90 rfl rfl ?_
        refine r_iload C dX5_judged_91 rfl ?_
        refine r_aload_n C dX5_judged_93 rfl rfl ?_
        refine r_getA C fl_X5_104 hk dX5_judged_94 ?_
        refine r_iconst (v := 2) C dX5_judged_97 rfl ?_
        refine r_iconst (v := 3) C dX5_judged_98 rfl ?_
        refine r_iload C dX5_judged_99 rfl ?_
        refine r_imul C dX5_judged_101 ?_
        refine r_iadd C dX5_judged_102 ?_
        refine r_iald C (rg_659 hk) rfl dX5_judged_103 fun h12 => ?_
        refine r_aload_n C dX5_judged_104 rfl rfl ?_
        refine r_getA C fl_X5_104 hk dX5_judged_105 ?_
        refine r_iconst (v := 3) C dX5_judged_108 rfl ?_
        refine r_iconst (v := 3) C dX5_judged_109 rfl ?_
        refine r_iload C dX5_judged_110 rfl ?_
        refine r_imul C dX5_judged_112 ?_
        refine r_iadd C dX5_judged_113 ?_
        refine r_iald C (rg_659 hk) rfl dX5_judged_114 fun h13 => ?_
        refine r_bd fun r14 h15 => ?_
        refine r_callV (As := [.int v10, .int (gA P 659 th ((2 : Int32) + ((3 : Int32) * x4)).toNatClampNeg), .int (gA P 659 th ((3 : Int32) + ((3 : Int32) * x4)).toNatClampNeg)]) (st := []) C (mc_X5_does hk h15) cv_X5_382 hk rfl (Nat.le_of_ble_eq_true rfl) (Nat.le_of_ble_eq_true rfl) rfl (Nat.le_of_ble_eq_true rfl) dX5_judged_115 ?_
        refine r_istore (ls' := [some (.ref th), some (.int x1), some (.int x2), some (.int x3), some (.int x4), some (.int v10), some (.int r14.1)]) C dX5_judged_118 (Nat.le_of_ble_eq_true rfl) rfl rfl ?_
        refine r_iload C dX5_judged_120 rfl ?_
        refine r_ifne (tgt := 134) C dX5_judged_122 (by decide) (fun h16 => ?_) (fun h16 => ?_)
        · refine r_iload_n C dX5_judged_134 rfl rfl ?_
          refine r_istore_n (ls' := [some (.ref th), some (.int x1), some (.int x2), some (.int x3), some (.int x4), some (.int v10), some (.int r14.1)]) C dX5_judged_135 rfl (Nat.le_of_ble_eq_true rfl) rfl rfl ?_
          refine r_iinc (v := 1) (ls' := [some (.ref th), some (.int x1), some (.int x2), some (.int x3), some (.int (x4 + (1 : Int32))), some (.int v10), some (.int r14.1)]) C dX5_judged_136 rfl rfl (Nat.le_of_ble_eq_true rfl) rfl rfl ?_
          refine r_goto (tgt := 31) C dX5_judged_139 (by decide) ?_
          refine r_mask [true, true, true, true, true, false, false] (ls' := [some (.ref th), some (.int x1), some (.int x2), some (.int x3), some (.int (x4 + (1 : Int32))), none, none]) rfl ?_
          exact ih x1 x2 x3 (x4 + (1 : Int32)) r14.2
        · refine r_iload_n C dX5_judged_125 rfl rfl ?_
          refine r_ifge (tgt := 134) C dX5_judged_126 (by decide) (fun h17 => ?_) (fun h17 => ?_)
          · refine r_iload_n C dX5_judged_134 rfl rfl ?_
            refine r_istore_n (ls' := [some (.ref th), some (.int x1), some (.int x2), some (.int x3), some (.int x4), some (.int v10), some (.int r14.1)]) C dX5_judged_135 rfl (Nat.le_of_ble_eq_true rfl) rfl rfl ?_
            refine r_iinc (v := 1) (ls' := [some (.ref th), some (.int x1), some (.int x2), some (.int x3), some (.int (x4 + (1 : Int32))), some (.int v10), some (.int r14.1)]) C dX5_judged_136 rfl rfl (Nat.le_of_ble_eq_true rfl) rfl rfl ?_
            refine r_goto (tgt := 31) C dX5_judged_139 (by decide) ?_
            refine r_mask [true, true, true, true, true, false, false] (ls' := [some (.ref th), some (.int x1), some (.int x2), some (.int x3), some (.int (x4 + (1 : Int32))), none, none]) rfl ?_
            exact ih x1 x2 x3 (x4 + (1 : Int32)) r14.2
          · refine r_iload C dX5_judged_129 rfl ?_
            refine r_goto (tgt := 135) C dX5_judged_131 (by decide) ?_
            refine r_istore_n (ls' := [some (.ref th), some (.int x1), some (.int x4), some (.int x3), some (.int x4), some (.int v10), some (.int r14.1)]) C dX5_judged_135 rfl (Nat.le_of_ble_eq_true rfl) rfl rfl ?_
            refine r_iinc (v := 1) (ls' := [some (.ref th), some (.int x1), some (.int x4), some (.int x3), some (.int (x4 + (1 : Int32))), some (.int v10), some (.int r14.1)]) C dX5_judged_136 rfl rfl (Nat.le_of_ble_eq_true rfl) rfl rfl ?_
            refine r_goto (tgt := 31) C dX5_judged_139 (by decide) ?_
            refine r_mask [true, true, true, true, true, false, false] (ls' := [some (.ref th), some (.int x1), some (.int x4), some (.int x3), some (.int (x4 + (1 : Int32))), none, none]) rfl ?_
            exact ih x1 x4 x3 (x4 + (1 : Int32)) r14.2
      · refine r_aload_n C dX5_judged_61 rfl rfl ?_
        refine r_sipush (v := 1134) C dX5_judged_62 rfl ?_
        refine r_iconst (v := 0) C dX5_judged_65 rfl ?_
        refine r_bd fun r18 h19 => ?_
        refine r_callV (As := [.int (1134 : Int32), .int (0 : Int32)]) (st := []) C (mc_X5_passes hk h19) cv_X5_379 hk rfl (Nat.le_of_ble_eq_true rfl) (Nat.le_of_ble_eq_true rfl) rfl (Nat.le_of_ble_eq_true rfl) dX5_judged_66 ?_
        refine r_istore (ls' := [some (.ref th), some (.int x1), some (.int x2), some (.int x3), some (.int x4), some (.int v10), some (.int r18.1)]) C dX5_judged_69 (Nat.le_of_ble_eq_true rfl) rfl rfl ?_
        refine r_iload C dX5_judged_71 rfl ?_
        refine r_ifle (tgt := 85) C dX5_judged_73 (by decide) (fun h20 => ?_) (fun h20 => ?_)
        · refine r_iload_n C dX5_judged_85 rfl rfl ?_
          refine r_istore_n (ls' := [some (.ref th), some (.int x1), some (.int x2), some (.int x3), some (.int x4), some (.int v10), some (.int r18.1)]) C dX5_judged_86 rfl (Nat.le_of_ble_eq_true rfl) rfl rfl ?_
          refine r_goto (tgt := 136) C dX5_judged_87 (by decide) ?_
          refine r_iinc (v := 1) (ls' := [some (.ref th), some (.int x1), some (.int x2), some (.int x3), some (.int (x4 + (1 : Int32))), some (.int v10), some (.int r18.1)]) C dX5_judged_136 rfl rfl (Nat.le_of_ble_eq_true rfl) rfl rfl ?_
          refine r_goto (tgt := 31) C dX5_judged_139 (by decide) ?_
          refine r_mask [true, true, true, true, true, false, false] (ls' := [some (.ref th), some (.int x1), some (.int x2), some (.int x3), some (.int (x4 + (1 : Int32))), none, none]) rfl ?_
          exact ih x1 x2 x3 (x4 + (1 : Int32)) r18.2
        · refine r_iload_n C dX5_judged_76 rfl rfl ?_
          refine r_ifge (tgt := 85) C dX5_judged_77 (by decide) (fun h21 => ?_) (fun h21 => ?_)
          · refine r_iload_n C dX5_judged_85 rfl rfl ?_
            refine r_istore_n (ls' := [some (.ref th), some (.int x1), some (.int x2), some (.int x3), some (.int x4), some (.int v10), some (.int r18.1)]) C dX5_judged_86 rfl (Nat.le_of_ble_eq_true rfl) rfl rfl ?_
            refine r_goto (tgt := 136) C dX5_judged_87 (by decide) ?_
            refine r_iinc (v := 1) (ls' := [some (.ref th), some (.int x1), some (.int x2), some (.int x3), some (.int (x4 + (1 : Int32))), some (.int v10), some (.int r18.1)]) C dX5_judged_136 rfl rfl (Nat.le_of_ble_eq_true rfl) rfl rfl ?_
            refine r_goto (tgt := 31) C dX5_judged_139 (by decide) ?_
            refine r_mask [true, true, true, true, true, false, false] (ls' := [some (.ref th), some (.int x1), some (.int x2), some (.int x3), some (.int (x4 + (1 : Int32))), none, none]) rfl ?_
            exact ih x1 x2 x3 (x4 + (1 : Int32)) r18.2
          · refine r_iload C dX5_judged_80 rfl ?_
            refine r_goto (tgt := 86) C dX5_judged_82 (by decide) ?_
            refine r_istore_n (ls' := [some (.ref th), some (.int x1), some (.int x2), some (.int x4), some (.int x4), some (.int v10), some (.int r18.1)]) C dX5_judged_86 rfl (Nat.le_of_ble_eq_true rfl) rfl rfl ?_
            refine r_goto (tgt := 136) C dX5_judged_87 (by decide) ?_
            refine r_iinc (v := 1) (ls' := [some (.ref th), some (.int x1), some (.int x2), some (.int x4), some (.int (x4 + (1 : Int32))), some (.int v10), some (.int r18.1)]) C dX5_judged_136 rfl rfl (Nat.le_of_ble_eq_true rfl) rfl rfl ?_
            refine r_goto (tgt := 31) C dX5_judged_139 (by decide) ?_
            refine r_mask [true, true, true, true, true, false, false] (ls' := [some (.ref th), some (.int x1), some (.int x2), some (.int x4), some (.int (x4 + (1 : Int32))), none, none]) rfl ?_
            exact ih x1 x2 x4 (x4 + (1 : Int32)) r18.2
def fX5_judged (th : Nat) (x1 : Int32) (P : mm_P) : Option (Int32 × mm_P) :=
  mm_lt (sI P 640 th (0 : Int32)) fun P1 =>
  mm_bd (fX5_within x1 (0 : Int32) (2 : Int32)) fun r2 =>
  if r2 ≠ 0 then
  (mm_bd (fX5_starts th (1134 : Int32) P1) fun r5 =>
  fX5_judged_b31 th mm_NF x1 (-1 : Int32) (-1 : Int32) (0 : Int32) r5)
  else
  (some ((-2 : Int32), P1))
set_option maxHeartbeats 4000000 in
theorem mc_X5_judged {l : Launch} {K : mm_K} {P : mm_P} {th : Nat} {x1 : Int32} {nx sl : Nat} {r : (Int32 × mm_P)} (hk : K.1 th = 5) (h : fX5_judged th x1 P = some r) : mm_C l yX5_judged (ws_ yX5_judged cX5_judged 7 (some .int)) 5 121 [.ref th, .int x1] K P nx sl (mm_wwI K nx sl r) :=
  mm_start (ls := [some (.ref th), some (.int x1), none, none, none, none, none]) h (by decide) (Nat.le_of_ble_eq_true rfl) rfl (Nat.le_refl _) (Nat.le_refl _) rfl fun E hl9 _ _ _ C => by
  have C : mm_Cx E RX5 cX5_judged 7 (some .int) 5 121 := C
  unfold fX5_judged
  refine r_aload_n C dX5_judged_0 rfl rfl ?_
  refine r_iconst (v := 0) C dX5_judged_1 rfl ?_
  refine r_putI (code := 640) C fl_X5_1 hk rfl rfl dX5_judged_2 ?_
  refine r_ltP fun P1 => ?_
  refine r_iload_n C dX5_judged_5 rfl rfl ?_
  refine r_iconst (v := 0) C dX5_judged_6 rfl ?_
  refine r_iconst (v := 2) C dX5_judged_7 rfl ?_
  refine r_bd fun r2 h3 => ?_
  refine r_callS (As := [.int x1, .int (0 : Int32), .int (2 : Int32)]) (st := []) C (mc_X5_within h3) cv_X5_349  rfl (Nat.le_of_ble_eq_true rfl) (Nat.le_of_ble_eq_true rfl) rfl (Nat.le_of_ble_eq_true rfl) dX5_judged_8 ?_
  refine r_ifne (tgt := 17) C dX5_judged_11 (by decide) (fun h4 => ?_) (fun h4 => ?_)
  · refine r_aload_n C dX5_judged_17 rfl rfl ?_
    refine r_sipush (v := 1134) C dX5_judged_18 rfl ?_
    refine r_bd fun r5 h6 => ?_
    refine r_callVv (As := [.int (1134 : Int32)]) (st := []) C (mc_X5_starts hk h6) cv_X5_282 hk rfl (Nat.le_of_ble_eq_true rfl) (Nat.le_of_ble_eq_true rfl) rfl (Nat.le_of_ble_eq_true rfl) dX5_judged_21 ?_
    refine r_iconst (v := -1) C dX5_judged_24 rfl ?_
    refine r_istore_n (ls' := [some (.ref th), some (.int x1), some (.int (-1 : Int32)), none, none, none, none]) C dX5_judged_25 rfl (Nat.le_of_ble_eq_true rfl) rfl rfl ?_
    refine r_iconst (v := -1) C dX5_judged_26 rfl ?_
    refine r_istore_n (ls' := [some (.ref th), some (.int x1), some (.int (-1 : Int32)), some (.int (-1 : Int32)), none, none, none]) C dX5_judged_27 rfl (Nat.le_of_ble_eq_true rfl) rfl rfl ?_
    refine r_iconst (v := 0) C dX5_judged_28 rfl ?_
    refine r_istore (ls' := [some (.ref th), some (.int x1), some (.int (-1 : Int32)), some (.int (-1 : Int32)), some (.int (0 : Int32)), none, none]) C dX5_judged_29 (Nat.le_of_ble_eq_true rfl) rfl rfl ?_
    exact wfX5_judged_b31 C hk mm_NF x1 (-1 : Int32) (-1 : Int32) (0 : Int32) r5
  · refine r_bipush (v := -2) C dX5_judged_14 rfl ?_
    exact r_iret C dX5_judged_16 rfl
/-! holds -/
def fX5_holds_b36 (th : Nat)  : Nat → Int32 → Int32 → mm_P → Option (Int32 × mm_P)
  | 0, _, _, _ => none
  | n + 1, x1, x2, P =>
  if (40 : Int32) < x2 then
  (some ((-1 : Int32), P))
  else
  (mm_bd (fX5_passes th (1134 : Int32) (0 : Int32) P) fun r2 =>
  mm_bd (fX5_isHung th r2.2 (1134 : Int32) x1) fun r4 =>
  if r4 ≠ 0 then
  (fX5_holds_b36 th n x1 (x2 + (1 : Int32)) r2.2)
  else
  (some (x2, r2.2)))
set_option maxHeartbeats 4000000 in
theorem wfX5_holds_b36 {E : mm_E} (C : mm_Cx E RX5 cX5_holds 3 (some .int) 5 121) {K : mm_K} {th : Nat} (hk : K.1 th = 5) {nx sl : Nat} : ∀ (n : Nat), ∀ (x1 : Int32) (x2 : Int32) (P : mm_P), mm_V E (mm_wwI K nx sl) 36 [some (.ref th), some (.int x1), some (.int x2)] [] K P nx sl (fX5_holds_b36 th n x1 x2 P) := by
  intro n
  induction n with
  | zero => intro x1 x2 P; exact r_none
  | succ n ih =>
    intro x1 x2 P
    rw [fX5_holds_b36]
    refine r_iload_n C dX5_holds_36 rfl rfl ?_
    refine r_bipush (v := 40) C dX5_holds_37 rfl ?_
    refine r_icmpgt (tgt := 70) C dX5_holds_39 (by decide) (fun h1 => ?_) (fun h1 => ?_)
    · refine r_iconst (v := -1) C dX5_holds_70 rfl ?_
      exact r_iret C dX5_holds_71 rfl
    · refine r_aload_n C dX5_holds_42 rfl rfl ?_
      refine r_sipush (v := 1134) C dX5_holds_43 rfl ?_
      refine r_iconst (v := 0) C dX5_holds_46 rfl ?_
      refine r_bd fun r2 h3 => ?_
      refine r_callV (As := [.int (1134 : Int32), .int (0 : Int32)]) (st := []) C (mc_X5_passes hk h3) cv_X5_379 hk rfl (Nat.le_of_ble_eq_true rfl) (Nat.le_of_ble_eq_true rfl) rfl (Nat.le_of_ble_eq_true rfl) dX5_holds_47 ?_
      refine r_pop C dX5_holds_50 rfl ?_
      refine r_aload_n C dX5_holds_51 rfl rfl ?_
      refine r_sipush (v := 1134) C dX5_holds_52 rfl ?_
      refine r_iload_n C dX5_holds_55 rfl rfl ?_
      refine r_bd fun r4 h5 => ?_
      refine r_callV (As := [.int (1134 : Int32), .int x1]) (st := []) C (mc_X5_isHung hk h5) cv_X5_304 hk rfl (Nat.le_of_ble_eq_true rfl) (Nat.le_of_ble_eq_true rfl) rfl (Nat.le_of_ble_eq_true rfl) dX5_holds_56 ?_
      refine r_ifne (tgt := 64) C dX5_holds_59 (by decide) (fun h6 => ?_) (fun h6 => ?_)
      · refine r_iinc (v := 1) (ls' := [some (.ref th), some (.int x1), some (.int (x2 + (1 : Int32)))]) C dX5_holds_64 rfl rfl (Nat.le_of_ble_eq_true rfl) rfl rfl ?_
        refine r_goto (tgt := 36) C dX5_holds_67 (by decide) ?_
        exact ih x1 (x2 + (1 : Int32)) r2.2
      · refine r_iload_n C dX5_holds_62 rfl rfl ?_
        exact r_iret C dX5_holds_63 rfl
def fX5_holds (th : Nat) (x1 : Int32) (P : mm_P) : Option (Int32 × mm_P) :=
  mm_lt (sI P 640 th (0 : Int32)) fun P1 =>
  mm_bd (fX5_isCloth th P1 x1) fun r2 =>
  if r2 = 0 then
  (some ((-1 : Int32), P1))
  else
  (mm_bd (fX5_isHung th P1 (0 : Int32) x1) fun r5 =>
  if r5 ≠ 0 then
  (mm_bd (fX5_copies th (0 : Int32) (1134 : Int32) (28 : Int32) P1) fun r8 =>
  fX5_holds_b36 th mm_NF x1 (1 : Int32) r8)
  else
  (some ((-1 : Int32), P1)))
set_option maxHeartbeats 4000000 in
theorem mc_X5_holds {l : Launch} {K : mm_K} {P : mm_P} {th : Nat} {x1 : Int32} {nx sl : Nat} {r : (Int32 × mm_P)} (hk : K.1 th = 5) (h : fX5_holds th x1 P = some r) : mm_C l yX5_holds (ws_ yX5_holds cX5_holds 3 (some .int)) 5 121 [.ref th, .int x1] K P nx sl (mm_wwI K nx sl r) :=
  mm_start (ls := [some (.ref th), some (.int x1), none]) h (by decide) (Nat.le_of_ble_eq_true rfl) rfl (Nat.le_refl _) (Nat.le_refl _) rfl fun E hl9 _ _ _ C => by
  have C : mm_Cx E RX5 cX5_holds 3 (some .int) 5 121 := C
  unfold fX5_holds
  refine r_aload_n C dX5_holds_0 rfl rfl ?_
  refine r_iconst (v := 0) C dX5_holds_1 rfl ?_
  refine r_putI (code := 640) C fl_X5_1 hk rfl rfl dX5_holds_2 ?_
  refine r_ltP fun P1 => ?_
  refine r_aload_n C dX5_holds_5 rfl rfl ?_
  refine r_iload_n C dX5_holds_6 rfl rfl ?_
  refine r_bd fun r2 h3 => ?_
  refine r_callV (As := [.int x1]) (st := []) C (mc_X5_isCloth hk h3) cv_X5_346 hk rfl (Nat.le_of_ble_eq_true rfl) (Nat.le_of_ble_eq_true rfl) rfl (Nat.le_of_ble_eq_true rfl) dX5_holds_7 ?_
  refine r_ifeq (tgt := 22) C dX5_holds_10 (by decide) (fun h4 => ?_) (fun h4 => ?_)
  · refine r_iconst (v := -1) C dX5_holds_22 rfl ?_
    exact r_iret C dX5_holds_23 rfl
  · refine r_aload_n C dX5_holds_13 rfl rfl ?_
    refine r_iconst (v := 0) C dX5_holds_14 rfl ?_
    refine r_iload_n C dX5_holds_15 rfl rfl ?_
    refine r_bd fun r5 h6 => ?_
    refine r_callV (As := [.int (0 : Int32), .int x1]) (st := []) C (mc_X5_isHung hk h6) cv_X5_304 hk rfl (Nat.le_of_ble_eq_true rfl) (Nat.le_of_ble_eq_true rfl) rfl (Nat.le_of_ble_eq_true rfl) dX5_holds_16 ?_
    refine r_ifne (tgt := 24) C dX5_holds_19 (by decide) (fun h7 => ?_) (fun h7 => ?_)
    · refine r_aload_n C dX5_holds_24 rfl rfl ?_
      refine r_iconst (v := 0) C dX5_holds_25 rfl ?_
      refine r_sipush (v := 1134) C dX5_holds_26 rfl ?_
      refine r_bipush (v := 28) C dX5_holds_29 rfl ?_
      refine r_bd fun r8 h9 => ?_
      refine r_callVv (As := [.int (0 : Int32), .int (1134 : Int32), .int (28 : Int32)]) (st := []) C (mc_X5_copies hk h9) cv_X5_288 hk rfl (Nat.le_of_ble_eq_true rfl) (Nat.le_of_ble_eq_true rfl) rfl (Nat.le_of_ble_eq_true rfl) dX5_holds_31 ?_
      refine r_iconst (v := 1) C dX5_holds_34 rfl ?_
      refine r_istore_n (ls' := [some (.ref th), some (.int x1), some (.int (1 : Int32))]) C dX5_holds_35 rfl (Nat.le_of_ble_eq_true rfl) rfl rfl ?_
      exact wfX5_holds_b36 C hk mm_NF x1 (1 : Int32) r8
    · refine r_iconst (v := -1) C dX5_holds_22 rfl ?_
      exact r_iret C dX5_holds_23 rfl
/-! clashesIn -/
def fX5_clashesIn_b15 (th : Nat) (P : mm_P) (k4 : Int32 → Int32 → Int32 → Option Int32) : Nat → Int32 → Int32 → Int32 → Int32 → Option Int32
  | 0, _, _, _, _ => none
  | n + 1, x1, x2, x3, x4 =>
  if x3 ≤ x4 then
  (k4 x1 x2 (x3 + (1 : Int32)))
  else
  (mm_gd (mm_in (((32 : Int32) + ((6 : Int32) * x3)) + x4) 200) <|
  if (gA P 650 th (((32 : Int32) + ((6 : Int32) * x3)) + x4).toNatClampNeg) ≠ (1 : Int32) then
  (mm_lt (x2 + (0 : Int32)) fun v4 =>
  fX5_clashesIn_b15 th P k4 n x1 v4 x3 (x4 + (1 : Int32)))
  else
  (if ((mm_shr x1 x3) &&& (1 : Int32)) ≠ (1 : Int32) then
  (mm_lt (x2 + (0 : Int32)) fun v6 =>
  fX5_clashesIn_b15 th P k4 n x1 v6 x3 (x4 + (1 : Int32)))
  else
  (if ((mm_shr x1 x4) &&& (1 : Int32)) ≠ (1 : Int32) then
  (mm_lt (x2 + (0 : Int32)) fun v8 =>
  fX5_clashesIn_b15 th P k4 n x1 v8 x3 (x4 + (1 : Int32)))
  else
  (mm_lt (x2 + (1 : Int32)) fun v9 =>
  fX5_clashesIn_b15 th P k4 n x1 v9 x3 (x4 + (1 : Int32))))))
set_option maxHeartbeats 4000000 in
theorem wfX5_clashesIn_b15 {E : mm_E} (C : mm_Cx E RX5 cX5_clashesIn 5 (some .int) 1 20) {K : mm_K} {th : Nat} (hk : K.1 th = 5) {P : mm_P} {nx sl : Nat} {k4 : Int32 → Int32 → Int32 → Option Int32} (hk4 : ∀ (x1 : Int32) (x2 : Int32) (x3 : Int32), mm_V E (mm_wrI K P nx sl) 4 [some (.ref th), some (.int x1), some (.int x2), some (.int x3), none] [] K P nx sl (k4 x1 x2 x3)) : ∀ (n : Nat), ∀ (x1 : Int32) (x2 : Int32) (x3 : Int32) (x4 : Int32), mm_V E (mm_wrI K P nx sl) 15 [some (.ref th), some (.int x1), some (.int x2), some (.int x3), some (.int x4)] [] K P nx sl (fX5_clashesIn_b15 th P k4 n x1 x2 x3 x4) := by
  intro n
  induction n with
  | zero => intro x1 x2 x3 x4; exact r_none
  | succ n ih =>
    intro x1 x2 x3 x4
    rw [fX5_clashesIn_b15]
    refine r_iload C dX5_clashesIn_15 rfl ?_
    refine r_iload_n C dX5_clashesIn_17 rfl rfl ?_
    refine r_icmpge (tgt := 73) C dX5_clashesIn_18 (by decide) (fun h1 => ?_) (fun h1 => ?_)
    · refine r_iinc (v := 1) (ls' := [some (.ref th), some (.int x1), some (.int x2), some (.int (x3 + (1 : Int32))), some (.int x4)]) C dX5_clashesIn_73 rfl rfl (Nat.le_of_ble_eq_true rfl) rfl rfl ?_
      refine r_goto (tgt := 4) C dX5_clashesIn_76 (by decide) ?_
      refine r_mask [true, true, true, true, false] (ls' := [some (.ref th), some (.int x1), some (.int x2), some (.int (x3 + (1 : Int32))), none]) rfl ?_
      exact hk4 x1 x2 (x3 + (1 : Int32))
    · refine r_iload_n C dX5_clashesIn_21 rfl rfl ?_
      refine r_aload_n C dX5_clashesIn_22 rfl rfl ?_
      refine r_getA C fl_X5_89 hk dX5_clashesIn_23 ?_
      refine r_bipush (v := 32) C dX5_clashesIn_26 rfl ?_
      refine r_bipush (v := 6) C dX5_clashesIn_28 rfl ?_
      refine r_iload_n C dX5_clashesIn_30 rfl rfl ?_
      refine r_imul C dX5_clashesIn_31 ?_
      refine r_iadd C dX5_clashesIn_32 ?_
      refine r_iload C dX5_clashesIn_33 rfl ?_
      refine r_iadd C dX5_clashesIn_35 ?_
      refine r_iald C (rg_650 hk) rfl dX5_clashesIn_36 fun h2 => ?_
      refine r_iconst (v := 1) C dX5_clashesIn_37 rfl ?_
      refine r_icmpne (tgt := 64) C dX5_clashesIn_38 (by decide) (fun h3 => ?_) (fun h3 => ?_)
      · refine r_iconst (v := 0) C dX5_clashesIn_64 rfl ?_
        refine r_iadd C dX5_clashesIn_65 ?_
        refine r_ltI fun v4 => ?_
        refine r_istore_n (ls' := [some (.ref th), some (.int x1), some (.int v4), some (.int x3), some (.int x4)]) C dX5_clashesIn_66 rfl (Nat.le_of_ble_eq_true rfl) rfl rfl ?_
        refine r_iinc (v := 1) (ls' := [some (.ref th), some (.int x1), some (.int v4), some (.int x3), some (.int (x4 + (1 : Int32)))]) C dX5_clashesIn_67 rfl rfl (Nat.le_of_ble_eq_true rfl) rfl rfl ?_
        refine r_goto (tgt := 15) C dX5_clashesIn_70 (by decide) ?_
        exact ih x1 v4 x3 (x4 + (1 : Int32))
      · refine r_iload_n C dX5_clashesIn_41 rfl rfl ?_
        refine r_iload_n C dX5_clashesIn_42 rfl rfl ?_
        refine r_ishr C dX5_clashesIn_43 ?_
        refine r_iconst (v := 1) C dX5_clashesIn_44 rfl ?_
        refine r_iand C dX5_clashesIn_45 ?_
        refine r_iconst (v := 1) C dX5_clashesIn_46 rfl ?_
        refine r_icmpne (tgt := 64) C dX5_clashesIn_47 (by decide) (fun h5 => ?_) (fun h5 => ?_)
        · refine r_iconst (v := 0) C dX5_clashesIn_64 rfl ?_
          refine r_iadd C dX5_clashesIn_65 ?_
          refine r_ltI fun v6 => ?_
          refine r_istore_n (ls' := [some (.ref th), some (.int x1), some (.int v6), some (.int x3), some (.int x4)]) C dX5_clashesIn_66 rfl (Nat.le_of_ble_eq_true rfl) rfl rfl ?_
          refine r_iinc (v := 1) (ls' := [some (.ref th), some (.int x1), some (.int v6), some (.int x3), some (.int (x4 + (1 : Int32)))]) C dX5_clashesIn_67 rfl rfl (Nat.le_of_ble_eq_true rfl) rfl rfl ?_
          refine r_goto (tgt := 15) C dX5_clashesIn_70 (by decide) ?_
          exact ih x1 v6 x3 (x4 + (1 : Int32))
        · refine r_iload_n C dX5_clashesIn_50 rfl rfl ?_
          refine r_iload C dX5_clashesIn_51 rfl ?_
          refine r_ishr C dX5_clashesIn_53 ?_
          refine r_iconst (v := 1) C dX5_clashesIn_54 rfl ?_
          refine r_iand C dX5_clashesIn_55 ?_
          refine r_iconst (v := 1) C dX5_clashesIn_56 rfl ?_
          refine r_icmpne (tgt := 64) C dX5_clashesIn_57 (by decide) (fun h7 => ?_) (fun h7 => ?_)
          · refine r_iconst (v := 0) C dX5_clashesIn_64 rfl ?_
            refine r_iadd C dX5_clashesIn_65 ?_
            refine r_ltI fun v8 => ?_
            refine r_istore_n (ls' := [some (.ref th), some (.int x1), some (.int v8), some (.int x3), some (.int x4)]) C dX5_clashesIn_66 rfl (Nat.le_of_ble_eq_true rfl) rfl rfl ?_
            refine r_iinc (v := 1) (ls' := [some (.ref th), some (.int x1), some (.int v8), some (.int x3), some (.int (x4 + (1 : Int32)))]) C dX5_clashesIn_67 rfl rfl (Nat.le_of_ble_eq_true rfl) rfl rfl ?_
            refine r_goto (tgt := 15) C dX5_clashesIn_70 (by decide) ?_
            exact ih x1 v8 x3 (x4 + (1 : Int32))
          · refine r_iconst (v := 1) C dX5_clashesIn_60 rfl ?_
            refine r_goto (tgt := 65) C dX5_clashesIn_61 (by decide) ?_
            refine r_iadd C dX5_clashesIn_65 ?_
            refine r_ltI fun v9 => ?_
            refine r_istore_n (ls' := [some (.ref th), some (.int x1), some (.int v9), some (.int x3), some (.int x4)]) C dX5_clashesIn_66 rfl (Nat.le_of_ble_eq_true rfl) rfl rfl ?_
            refine r_iinc (v := 1) (ls' := [some (.ref th), some (.int x1), some (.int v9), some (.int x3), some (.int (x4 + (1 : Int32)))]) C dX5_clashesIn_67 rfl rfl (Nat.le_of_ble_eq_true rfl) rfl rfl ?_
            refine r_goto (tgt := 15) C dX5_clashesIn_70 (by decide) ?_
            exact ih x1 v9 x3 (x4 + (1 : Int32))
def fX5_clashesIn_b4 (th : Nat) (P : mm_P)  : Nat → Int32 → Int32 → Int32 → Option Int32
  | 0, _, _, _ => none
  | n + 1, x1, x2, x3 =>
  mm_bd (fX5_cloths th P) fun r1 =>
  if r1 ≤ x3 then
  (some (x2))
  else
  (fX5_clashesIn_b15 th P (fX5_clashesIn_b4 th P n) mm_NF x1 x2 x3 (0 : Int32))
set_option maxHeartbeats 4000000 in
theorem wfX5_clashesIn_b4 {E : mm_E} (C : mm_Cx E RX5 cX5_clashesIn 5 (some .int) 1 20) {K : mm_K} {th : Nat} (hk : K.1 th = 5) {P : mm_P} {nx sl : Nat} : ∀ (n : Nat), ∀ (x1 : Int32) (x2 : Int32) (x3 : Int32), mm_V E (mm_wrI K P nx sl) 4 [some (.ref th), some (.int x1), some (.int x2), some (.int x3), none] [] K P nx sl (fX5_clashesIn_b4 th P n x1 x2 x3) := by
  intro n
  induction n with
  | zero => intro x1 x2 x3; exact r_none
  | succ n ih =>
    intro x1 x2 x3
    rw [fX5_clashesIn_b4]
    refine r_iload_n C dX5_clashesIn_4 rfl rfl ?_
    refine r_aload_n C dX5_clashesIn_5 rfl rfl ?_
    refine r_bd fun r1 h2 => ?_
    refine r_callV (As := []) (st := [.int x3]) C (mc_X5_cloths hk h2) cv_X5_292 hk rfl (Nat.le_of_ble_eq_true rfl) (Nat.le_of_ble_eq_true rfl) rfl (Nat.le_of_ble_eq_true rfl) dX5_clashesIn_6 ?_
    refine r_icmpge (tgt := 79) C dX5_clashesIn_9 (by decide) (fun h3 => ?_) (fun h3 => ?_)
    · refine r_iload_n C dX5_clashesIn_79 rfl rfl ?_
      exact r_iret C dX5_clashesIn_80 rfl
    · refine r_iconst (v := 0) C dX5_clashesIn_12 rfl ?_
      refine r_istore (ls' := [some (.ref th), some (.int x1), some (.int x2), some (.int x3), some (.int (0 : Int32))]) C dX5_clashesIn_13 (Nat.le_of_ble_eq_true rfl) rfl rfl ?_
      exact wfX5_clashesIn_b15 C hk ih mm_NF x1 x2 x3 (0 : Int32)
def fX5_clashesIn (th : Nat) (P : mm_P) (x1 : Int32) : Option Int32 :=
  fX5_clashesIn_b4 th P mm_NF x1 (0 : Int32) (0 : Int32)
set_option maxHeartbeats 4000000 in
theorem mc_X5_clashesIn {l : Launch} {K : mm_K} {P : mm_P} {th : Nat} {x1 : Int32} {nx sl : Nat} {r : Int32} (hk : K.1 th = 5) (h : fX5_clashesIn th P x1 = some r) : mm_C l yX5_clashesIn (ws_ yX5_clashesIn cX5_clashesIn 5 (some .int)) 1 20 [.ref th, .int x1] K P nx sl (mm_wrI K P nx sl r) :=
  mm_start (ls := [some (.ref th), some (.int x1), none, none, none]) h (by decide) (Nat.le_of_ble_eq_true rfl) rfl (Nat.le_refl _) (Nat.le_refl _) rfl fun E hl9 _ _ _ C => by
  have C : mm_Cx E RX5 cX5_clashesIn 5 (some .int) 1 20 := C
  unfold fX5_clashesIn
  refine r_iconst (v := 0) C dX5_clashesIn_0 rfl ?_
  refine r_istore_n (ls' := [some (.ref th), some (.int x1), some (.int (0 : Int32)), none, none]) C dX5_clashesIn_1 rfl (Nat.le_of_ble_eq_true rfl) rfl rfl ?_
  refine r_iconst (v := 0) C dX5_clashesIn_2 rfl ?_
  refine r_istore_n (ls' := [some (.ref th), some (.int x1), some (.int (0 : Int32)), some (.int (0 : Int32)), none]) C dX5_clashesIn_3 rfl (Nat.le_of_ble_eq_true rfl) rfl rfl ?_
  exact wfX5_clashesIn_b4 C hk mm_NF x1 (0 : Int32) (0 : Int32)
/-! clashes -/
def fX5_clashes (th : Nat)  (P : mm_P) : Option (Int32 × mm_P) :=
  mm_lt (sI P 640 th (0 : Int32)) fun P1 =>
  mm_bd (fX5_lawsOf th P1 (0 : Int32)) fun r2 =>
  mm_bd (fX5_clashesIn th P1 r2) fun r4 =>
  some (r4, P1)
set_option maxHeartbeats 4000000 in
theorem mc_X5_clashes {l : Launch} {K : mm_K} {P : mm_P} {th : Nat}  {nx sl : Nat} {r : (Int32 × mm_P)} (hk : K.1 th = 5) (h : fX5_clashes th P = some r) : mm_C l yX5_clashes (ws_ yX5_clashes cX5_clashes 1 (some .int)) 4 88 [.ref th] K P nx sl (mm_wwI K nx sl r) :=
  mm_start (ls := [some (.ref th)]) h (by decide) (Nat.le_of_ble_eq_true rfl) rfl (Nat.le_refl _) (Nat.le_refl _) rfl fun E hl9 _ _ _ C => by
  have C : mm_Cx E RX5 cX5_clashes 1 (some .int) 4 88 := C
  unfold fX5_clashes
  refine r_aload_n C dX5_clashes_0 rfl rfl ?_
  refine r_iconst (v := 0) C dX5_clashes_1 rfl ?_
  refine r_putI (code := 640) C fl_X5_1 hk rfl rfl dX5_clashes_2 ?_
  refine r_ltP fun P1 => ?_
  refine r_aload_n C dX5_clashes_5 rfl rfl ?_
  refine r_aload_n C dX5_clashes_6 rfl rfl ?_
  refine r_iconst (v := 0) C dX5_clashes_7 rfl ?_
  refine r_bd fun r2 h3 => ?_
  refine r_callV (As := [.int (0 : Int32)]) (st := [.ref th]) C (mc_X5_lawsOf hk h3) cv_X5_358 hk rfl (Nat.le_of_ble_eq_true rfl) (Nat.le_of_ble_eq_true rfl) rfl (Nat.le_of_ble_eq_true rfl) dX5_clashes_8 ?_
  refine r_bd fun r4 h5 => ?_
  refine r_callV (As := [.int r2]) (st := []) C (mc_X5_clashesIn hk h5) cv_X5_388 hk rfl (Nat.le_of_ble_eq_true rfl) (Nat.le_of_ble_eq_true rfl) rfl (Nat.le_of_ble_eq_true rfl) dX5_clashes_11 ?_
  exact r_iret C dX5_clashes_14 rfl
/-! mend -/
def fX5_mend_b65 (th : Nat) (k27 : Int32 → Int32 → Int32 → Int32 → mm_P → Option (Int32 × mm_P)) (x1 : Int32) (x2 : Int32) (x3 : Int32) (x4 : Int32) (s0 : Int32) (P : mm_P) : Option (Int32 × mm_P) :=
  if s0 = 0 then
  (k27 x1 x2 x3 (x4 + (1 : Int32)) P)
  else
  (if x3 < 0 then
  (k27 x1 x2 x4 (x4 + (1 : Int32)) P)
  else
  (mm_bd (fX5_worthOf th P x4) fun r3 =>
  mm_bd (fX5_worthOf th P x3) fun r5 =>
  if r5 ≤ r3 then
  (k27 x1 x2 x3 (x4 + (1 : Int32)) P)
  else
  (k27 x1 x2 x4 (x4 + (1 : Int32)) P)))
set_option maxHeartbeats 4000000 in
theorem wfX5_mend_b65 {E : mm_E} (C : mm_Cx E RX5 cX5_mend 6 (some .int) 4 88) {K : mm_K} {th : Nat} (hk : K.1 th = 5) {nx sl : Nat} {k27 : Int32 → Int32 → Int32 → Int32 → mm_P → Option (Int32 × mm_P)} (hk27 : ∀ (x1 : Int32) (x2 : Int32) (x3 : Int32) (x4 : Int32) (P : mm_P), mm_V E (mm_wwI K nx sl) 27 [some (.ref th), some (.int x1), some (.int x2), some (.int x3), some (.int x4), none] [] K P nx sl (k27 x1 x2 x3 x4 P)) (x1 : Int32) (x2 : Int32) (x3 : Int32) (x4 : Int32) (s0 : Int32) (P : mm_P) : mm_V E (mm_wwI K nx sl) 65 [some (.ref th), some (.int x1), some (.int x2), some (.int x3), some (.int x4), none] [.int s0] K P nx sl (fX5_mend_b65 th k27 x1 x2 x3 x4 s0 P) := by
  unfold fX5_mend_b65
  refine r_istore (ls' := [some (.ref th), some (.int x1), some (.int x2), some (.int x3), some (.int x4), some (.int s0)]) C dX5_mend_65 (Nat.le_of_ble_eq_true rfl) rfl rfl ?_
  refine r_iload C dX5_mend_67 rfl ?_
  refine r_ifeq (tgt := 95) C dX5_mend_69 (by decide) (fun h1 => ?_) (fun h1 => ?_)
  · refine r_iload_n C dX5_mend_95 rfl rfl ?_
    refine r_istore_n (ls' := [some (.ref th), some (.int x1), some (.int x2), some (.int x3), some (.int x4), some (.int s0)]) C dX5_mend_96 rfl (Nat.le_of_ble_eq_true rfl) rfl rfl ?_
    refine r_iinc (v := 1) (ls' := [some (.ref th), some (.int x1), some (.int x2), some (.int x3), some (.int (x4 + (1 : Int32))), some (.int s0)]) C dX5_mend_97 rfl rfl (Nat.le_of_ble_eq_true rfl) rfl rfl ?_
    refine r_goto (tgt := 27) C dX5_mend_100 (by decide) ?_
    refine r_mask [true, true, true, true, true, false] (ls' := [some (.ref th), some (.int x1), some (.int x2), some (.int x3), some (.int (x4 + (1 : Int32))), none]) rfl ?_
    exact hk27 x1 x2 x3 (x4 + (1 : Int32)) P
  · refine r_iload_n C dX5_mend_72 rfl rfl ?_
    refine r_iflt (tgt := 90) C dX5_mend_73 (by decide) (fun h2 => ?_) (fun h2 => ?_)
    · refine r_iload C dX5_mend_90 rfl ?_
      refine r_goto (tgt := 96) C dX5_mend_92 (by decide) ?_
      refine r_istore_n (ls' := [some (.ref th), some (.int x1), some (.int x2), some (.int x4), some (.int x4), some (.int s0)]) C dX5_mend_96 rfl (Nat.le_of_ble_eq_true rfl) rfl rfl ?_
      refine r_iinc (v := 1) (ls' := [some (.ref th), some (.int x1), some (.int x2), some (.int x4), some (.int (x4 + (1 : Int32))), some (.int s0)]) C dX5_mend_97 rfl rfl (Nat.le_of_ble_eq_true rfl) rfl rfl ?_
      refine r_goto (tgt := 27) C dX5_mend_100 (by decide) ?_
      refine r_mask [true, true, true, true, true, false] (ls' := [some (.ref th), some (.int x1), some (.int x2), some (.int x4), some (.int (x4 + (1 : Int32))), none]) rfl ?_
      exact hk27 x1 x2 x4 (x4 + (1 : Int32)) P
    · refine r_aload_n C dX5_mend_76 rfl rfl ?_
      refine r_iload C dX5_mend_77 rfl ?_
      refine r_bd fun r3 h4 => ?_
      refine r_callV (As := [.int x4]) (st := []) C (mc_X5_worthOf hk h4) cv_X5_385 hk rfl (Nat.le_of_ble_eq_true rfl) (Nat.le_of_ble_eq_true rfl) rfl (Nat.le_of_ble_eq_true rfl) dX5_mend_79 ?_
      refine r_aload_n C dX5_mend_82 rfl rfl ?_
      refine r_iload_n C dX5_mend_83 rfl rfl ?_
      refine r_bd fun r5 h6 => ?_
      refine r_callV (As := [.int x3]) (st := [.int r3]) C (mc_X5_worthOf hk h6) cv_X5_385 hk rfl (Nat.le_of_ble_eq_true rfl) (Nat.le_of_ble_eq_true rfl) rfl (Nat.le_of_ble_eq_true rfl) dX5_mend_84 ?_
      refine r_icmpge (tgt := 95) C dX5_mend_87 (by decide) (fun h7 => ?_) (fun h7 => ?_)
      · refine r_iload_n C dX5_mend_95 rfl rfl ?_
        refine r_istore_n (ls' := [some (.ref th), some (.int x1), some (.int x2), some (.int x3), some (.int x4), some (.int s0)]) C dX5_mend_96 rfl (Nat.le_of_ble_eq_true rfl) rfl rfl ?_
        refine r_iinc (v := 1) (ls' := [some (.ref th), some (.int x1), some (.int x2), some (.int x3), some (.int (x4 + (1 : Int32))), some (.int s0)]) C dX5_mend_97 rfl rfl (Nat.le_of_ble_eq_true rfl) rfl rfl ?_
        refine r_goto (tgt := 27) C dX5_mend_100 (by decide) ?_
        refine r_mask [true, true, true, true, true, false] (ls' := [some (.ref th), some (.int x1), some (.int x2), some (.int x3), some (.int (x4 + (1 : Int32))), none]) rfl ?_
        exact hk27 x1 x2 x3 (x4 + (1 : Int32)) P
      · refine r_iload C dX5_mend_90 rfl ?_
        refine r_goto (tgt := 96) C dX5_mend_92 (by decide) ?_
        refine r_istore_n (ls' := [some (.ref th), some (.int x1), some (.int x2), some (.int x4), some (.int x4), some (.int s0)]) C dX5_mend_96 rfl (Nat.le_of_ble_eq_true rfl) rfl rfl ?_
        refine r_iinc (v := 1) (ls' := [some (.ref th), some (.int x1), some (.int x2), some (.int x4), some (.int (x4 + (1 : Int32))), some (.int s0)]) C dX5_mend_97 rfl rfl (Nat.le_of_ble_eq_true rfl) rfl rfl ?_
        refine r_goto (tgt := 27) C dX5_mend_100 (by decide) ?_
        refine r_mask [true, true, true, true, true, false] (ls' := [some (.ref th), some (.int x1), some (.int x2), some (.int x4), some (.int (x4 + (1 : Int32))), none]) rfl ?_
        exact hk27 x1 x2 x4 (x4 + (1 : Int32)) P
def fX5_mend_b64 (th : Nat) (k27 : Int32 → Int32 → Int32 → Int32 → mm_P → Option (Int32 × mm_P)) (x1 : Int32) (x2 : Int32) (x3 : Int32) (x4 : Int32) (P : mm_P) : Option (Int32 × mm_P) :=
  fX5_mend_b65 th k27 x1 x2 x3 x4 (0 : Int32) P
set_option maxHeartbeats 4000000 in
theorem wfX5_mend_b64 {E : mm_E} (C : mm_Cx E RX5 cX5_mend 6 (some .int) 4 88) {K : mm_K} {th : Nat} (hk : K.1 th = 5) {nx sl : Nat} {k27 : Int32 → Int32 → Int32 → Int32 → mm_P → Option (Int32 × mm_P)} (hk27 : ∀ (x1 : Int32) (x2 : Int32) (x3 : Int32) (x4 : Int32) (P : mm_P), mm_V E (mm_wwI K nx sl) 27 [some (.ref th), some (.int x1), some (.int x2), some (.int x3), some (.int x4), none] [] K P nx sl (k27 x1 x2 x3 x4 P)) (x1 : Int32) (x2 : Int32) (x3 : Int32) (x4 : Int32) (P : mm_P) : mm_V E (mm_wwI K nx sl) 64 [some (.ref th), some (.int x1), some (.int x2), some (.int x3), some (.int x4), none] [] K P nx sl (fX5_mend_b64 th k27 x1 x2 x3 x4 P) := by
  unfold fX5_mend_b64
  refine r_iconst (v := 0) C dX5_mend_64 rfl ?_
  exact wfX5_mend_b65 C hk hk27 x1 x2 x3 x4 (0 : Int32) P
def fX5_mend_b27 (th : Nat)  : Nat → Int32 → Int32 → Int32 → Int32 → mm_P → Option (Int32 × mm_P)
  | 0, _, _, _, _, _ => none
  | n + 1, x1, x2, x3, x4, P =>
  mm_bd (fX5_cloths th P) fun r1 =>
  if (mm_shl (1 : Int32) r1) ≤ x4 then
  (if x1 ≠ 0 then
  (some (x3, P))
  else
  (mm_bd (fX5_worthOf th P x3) fun r5 =>
  some (r5, P)))
  else
  (if (x4 &&& (x2 ^^^ (-1 : Int32))) ≠ 0 then
  (fX5_mend_b64 th (fX5_mend_b27 th n) x1 x2 x3 x4 P)
  else
  (mm_bd (fX5_clashesIn th P (x2 &&& (x4 ^^^ (-1 : Int32)))) fun r8 =>
  if r8 ≠ 0 then
  (fX5_mend_b64 th (fX5_mend_b27 th n) x1 x2 x3 x4 P)
  else
  (fX5_mend_b65 th (fX5_mend_b27 th n) x1 x2 x3 x4 (1 : Int32) P)))
set_option maxHeartbeats 4000000 in
theorem wfX5_mend_b27 {E : mm_E} (C : mm_Cx E RX5 cX5_mend 6 (some .int) 4 88) {K : mm_K} {th : Nat} (hk : K.1 th = 5) {nx sl : Nat} : ∀ (n : Nat), ∀ (x1 : Int32) (x2 : Int32) (x3 : Int32) (x4 : Int32) (P : mm_P), mm_V E (mm_wwI K nx sl) 27 [some (.ref th), some (.int x1), some (.int x2), some (.int x3), some (.int x4), none] [] K P nx sl (fX5_mend_b27 th n x1 x2 x3 x4 P) := by
  intro n
  induction n with
  | zero => intro x1 x2 x3 x4 P; exact r_none
  | succ n ih =>
    intro x1 x2 x3 x4 P
    rw [fX5_mend_b27]
    refine r_iload C dX5_mend_27 rfl ?_
    refine r_iconst (v := 1) C dX5_mend_29 rfl ?_
    refine r_aload_n C dX5_mend_30 rfl rfl ?_
    refine r_bd fun r1 h2 => ?_
    refine r_callV (As := []) (st := [.int (1 : Int32), .int x4]) C (mc_X5_cloths hk h2) cv_X5_292 hk rfl (Nat.le_of_ble_eq_true rfl) (Nat.le_of_ble_eq_true rfl) rfl (Nat.le_of_ble_eq_true rfl) dX5_mend_31 ?_
    refine r_ishl C dX5_mend_34 ?_
    refine r_icmpge (tgt := 103) C dX5_mend_35 (by decide) (fun h3 => ?_) (fun h3 => ?_)
    · refine r_iload_n C dX5_mend_103 rfl rfl ?_
      refine r_ifne (tgt := 115) C dX5_mend_104 (by decide) (fun h4 => ?_) (fun h4 => ?_)
      · refine r_iload_n C dX5_mend_115 rfl rfl ?_
        exact r_iret C dX5_mend_116 rfl
      · refine r_aload_n C dX5_mend_107 rfl rfl ?_
        refine r_iload_n C dX5_mend_108 rfl rfl ?_
        refine r_bd fun r5 h6 => ?_
        refine r_callV (As := [.int x3]) (st := []) C (mc_X5_worthOf hk h6) cv_X5_385 hk rfl (Nat.le_of_ble_eq_true rfl) (Nat.le_of_ble_eq_true rfl) rfl (Nat.le_of_ble_eq_true rfl) dX5_mend_109 ?_
        refine r_goto (tgt := 116) C dX5_mend_112 (by decide) ?_
        exact r_iret C dX5_mend_116 rfl
    · refine r_iload C dX5_mend_38 rfl ?_
      refine r_iload_n C dX5_mend_40 rfl rfl ?_
      refine r_iconst (v := -1) C dX5_mend_41 rfl ?_
      refine r_ixor C dX5_mend_42 ?_
      refine r_iand C dX5_mend_43 ?_
      refine r_ifne (tgt := 64) C dX5_mend_44 (by decide) (fun h7 => ?_) (fun h7 => ?_)
      · exact wfX5_mend_b64 C hk ih x1 x2 x3 x4 P
      · refine r_aload_n C dX5_mend_47 rfl rfl ?_
        refine r_iload_n C dX5_mend_48 rfl rfl ?_
        refine r_iload C dX5_mend_49 rfl ?_
        refine r_iconst (v := -1) C dX5_mend_51 rfl ?_
        refine r_ixor C dX5_mend_52 ?_
        refine r_iand C dX5_mend_53 ?_
        refine r_bd fun r8 h9 => ?_
        refine r_callV (As := [.int (x2 &&& (x4 ^^^ (-1 : Int32)))]) (st := []) C (mc_X5_clashesIn hk h9) cv_X5_388 hk rfl (Nat.le_of_ble_eq_true rfl) (Nat.le_of_ble_eq_true rfl) rfl (Nat.le_of_ble_eq_true rfl) dX5_mend_54 ?_
        refine r_ifne (tgt := 64) C dX5_mend_57 (by decide) (fun h10 => ?_) (fun h10 => ?_)
        · exact wfX5_mend_b64 C hk ih x1 x2 x3 x4 P
        · refine r_iconst (v := 1) C dX5_mend_60 rfl ?_
          refine r_goto (tgt := 65) C dX5_mend_61 (by decide) ?_
          exact wfX5_mend_b65 C hk ih x1 x2 x3 x4 (1 : Int32) P
def fX5_mend (th : Nat) (x1 : Int32) (P : mm_P) : Option (Int32 × mm_P) :=
  mm_lt (sI P 640 th (0 : Int32)) fun P1 =>
  mm_bd (fX5_within x1 (0 : Int32) (1 : Int32)) fun r2 =>
  if r2 ≠ 0 then
  (mm_bd (fX5_lawsOf th P1 (0 : Int32)) fun r5 =>
  fX5_mend_b27 th mm_NF x1 r5 (-1 : Int32) (0 : Int32) P1)
  else
  (some ((-1 : Int32), P1))
set_option maxHeartbeats 4000000 in
theorem mc_X5_mend {l : Launch} {K : mm_K} {P : mm_P} {th : Nat} {x1 : Int32} {nx sl : Nat} {r : (Int32 × mm_P)} (hk : K.1 th = 5) (h : fX5_mend th x1 P = some r) : mm_C l yX5_mend (ws_ yX5_mend cX5_mend 6 (some .int)) 4 88 [.ref th, .int x1] K P nx sl (mm_wwI K nx sl r) :=
  mm_start (ls := [some (.ref th), some (.int x1), none, none, none, none]) h (by decide) (Nat.le_of_ble_eq_true rfl) rfl (Nat.le_refl _) (Nat.le_refl _) rfl fun E hl9 _ _ _ C => by
  have C : mm_Cx E RX5 cX5_mend 6 (some .int) 4 88 := C
  unfold fX5_mend
  refine r_aload_n C dX5_mend_0 rfl rfl ?_
  refine r_iconst (v := 0) C dX5_mend_1 rfl ?_
  refine r_putI (code := 640) C fl_X5_1 hk rfl rfl dX5_mend_2 ?_
  refine r_ltP fun P1 => ?_
  refine r_iload_n C dX5_mend_5 rfl rfl ?_
  refine r_iconst (v := 0) C dX5_mend_6 rfl ?_
  refine r_iconst (v := 1) C dX5_mend_7 rfl ?_
  refine r_bd fun r2 h3 => ?_
  refine r_callS (As := [.int x1, .int (0 : Int32), .int (1 : Int32)]) (st := []) C (mc_X5_within h3) cv_X5_349  rfl (Nat.le_of_ble_eq_true rfl) (Nat.le_of_ble_eq_true rfl) rfl (Nat.le_of_ble_eq_true rfl) dX5_mend_8 ?_
  refine r_ifne (tgt := 16) C dX5_mend_11 (by decide) (fun h4 => ?_) (fun h4 => ?_)
  · refine r_aload_n C dX5_mend_16 rfl rfl ?_
    refine r_iconst (v := 0) C dX5_mend_17 rfl ?_
    refine r_bd fun r5 h6 => ?_
    refine r_callV (As := [.int (0 : Int32)]) (st := []) C (mc_X5_lawsOf hk h6) cv_X5_358 hk rfl (Nat.le_of_ble_eq_true rfl) (Nat.le_of_ble_eq_true rfl) rfl (Nat.le_of_ble_eq_true rfl) dX5_mend_18 ?_
    refine r_istore_n (ls' := [some (.ref th), some (.int x1), some (.int r5), none, none, none]) C dX5_mend_21 rfl (Nat.le_of_ble_eq_true rfl) rfl rfl ?_
    refine r_iconst (v := -1) C dX5_mend_22 rfl ?_
    refine r_istore_n (ls' := [some (.ref th), some (.int x1), some (.int r5), some (.int (-1 : Int32)), none, none]) C dX5_mend_23 rfl (Nat.le_of_ble_eq_true rfl) rfl rfl ?_
    refine r_iconst (v := 0) C dX5_mend_24 rfl ?_
    refine r_istore (ls' := [some (.ref th), some (.int x1), some (.int r5), some (.int (-1 : Int32)), some (.int (0 : Int32)), none]) C dX5_mend_25 (Nat.le_of_ble_eq_true rfl) rfl rfl ?_
    exact wfX5_mend_b27 C hk mm_NF x1 r5 (-1 : Int32) (0 : Int32) P1
  · refine r_iconst (v := -1) C dX5_mend_14 rfl ?_
    exact r_iret C dX5_mend_15 rfl
/-! findHardest -/
def fX5_findHardest_b88 (th : Nat) (k2 : Int32 → Int32 → mm_P → Option mm_P) (k29 : Int32 → Int32 → Int32 → Int32 → mm_P → Option mm_P) (x1 : Int32) (x2 : Int32) (x3 : Int32) (x4 : Int32) (x5 : Int32) (s1 : Int32) (s2 : Int32) (P : mm_P) : Option mm_P :=
  mm_gd (mm_in s1 6) <|
  mm_lt (sA P 665 th s1.toNatClampNeg s2) fun P2 =>
  mm_bd (fX5_driedOf th x2 x3 x5 P2) fun r3 =>
  k29 x1 x2 r3.1 (x4 + (1 : Int32)) r3.2
set_option maxHeartbeats 4000000 in
theorem wfX5_findHardest_b88 {E : mm_E} (C : mm_Cx E RX5 cX5_findHardest 7 none 3 70) {K : mm_K} {th : Nat} (hk : K.1 th = 5) {nx sl : Nat} {k2 : Int32 → Int32 → mm_P → Option mm_P} (hk2 : ∀ (x1 : Int32) (x2 : Int32) (P : mm_P), mm_V E (mm_wwV K nx sl) 2 [some (.ref th), some (.int x1), some (.int x2), none, none, none, none] [] K P nx sl (k2 x1 x2 P)) {k29 : Int32 → Int32 → Int32 → Int32 → mm_P → Option mm_P} (hk29 : ∀ (x1 : Int32) (x2 : Int32) (x3 : Int32) (x4 : Int32) (P : mm_P), mm_V E (mm_wwV K nx sl) 29 [some (.ref th), some (.int x1), some (.int x2), some (.int x3), some (.int x4), none, none] [] K P nx sl (k29 x1 x2 x3 x4 P)) (x1 : Int32) (x2 : Int32) (x3 : Int32) (x4 : Int32) (x5 : Int32) (s1 : Int32) (s2 : Int32) (P : mm_P) : mm_V E (mm_wwV K nx sl) 88 [some (.ref th), some (.int x1), some (.int x2), some (.int x3), some (.int x4), some (.int x5), none] [.int s2, .int s1, .ref (th + 16)] K P nx sl (fX5_findHardest_b88 th k2 k29 x1 x2 x3 x4 x5 s1 s2 P) := by
  unfold fX5_findHardest_b88
  refine r_iast C (rg_665 hk) (mm_ro_of (k := 5) hk rfl) rfl dX5_findHardest_88 fun h1 => ?_
  refine r_ltP fun P2 => ?_
  refine r_aload_n C dX5_findHardest_89 rfl rfl ?_
  refine r_iload_n C dX5_findHardest_90 rfl rfl ?_
  refine r_iload_n C dX5_findHardest_91 rfl rfl ?_
  refine r_iload C dX5_findHardest_92 rfl ?_
  refine r_bd fun r3 h4 => ?_
  refine r_callV (As := [.int x2, .int x3, .int x5]) (st := []) C (mc_X5_driedOf hk h4) cv_X5_340 hk rfl (Nat.le_of_ble_eq_true rfl) (Nat.le_of_ble_eq_true rfl) rfl (Nat.le_of_ble_eq_true rfl) dX5_findHardest_94 ?_
  refine r_istore_n (ls' := [some (.ref th), some (.int x1), some (.int x2), some (.int r3.1), some (.int x4), some (.int x5), none]) C dX5_findHardest_97 rfl (Nat.le_of_ble_eq_true rfl) rfl rfl ?_
  refine r_iinc (v := 1) (ls' := [some (.ref th), some (.int x1), some (.int x2), some (.int r3.1), some (.int (x4 + (1 : Int32))), some (.int x5), none]) C dX5_findHardest_98 rfl rfl (Nat.le_of_ble_eq_true rfl) rfl rfl ?_
  refine r_goto (tgt := 29) C dX5_findHardest_101 (by decide) ?_
  refine r_mask [true, true, true, true, true, false, true] (ls' := [some (.ref th), some (.int x1), some (.int x2), some (.int r3.1), some (.int (x4 + (1 : Int32))), none, none]) rfl ?_
  exact hk29 x1 x2 r3.1 (x4 + (1 : Int32)) r3.2
def fX5_findHardest_b29 (th : Nat) (k2 : Int32 → Int32 → mm_P → Option mm_P) : Nat → Int32 → Int32 → Int32 → Int32 → mm_P → Option mm_P
  | 0, _, _, _, _, _ => none
  | n + 1, x1, x2, x3, x4, P =>
  if x1 ≤ x4 then
  (k2 x1 (x2 + (1 : Int32)) P)
  else
  (mm_gd (mm_in (0 : Int32) 1242) <|
  mm_bd (fX5_windOf th P ((gA P 662 th (0 : Int32).toNatClampNeg) + x4) (0 : Int32)) fun r3 =>
  mm_bd (fX5_pullOf th x2 x3 r3 P) fun r5 =>
  mm_gd (mm_in x2 6) <|
  if r5.1 ≤ (gA r5.2 665 th x2.toNatClampNeg) then
  (mm_gd (mm_in x2 6) <|
  fX5_findHardest_b88 th k2 (fX5_findHardest_b29 th k2 n) x1 x2 x3 x4 r3 x2 (gA r5.2 665 th x2.toNatClampNeg) r5.2)
  else
  (fX5_findHardest_b88 th k2 (fX5_findHardest_b29 th k2 n) x1 x2 x3 x4 r3 x2 r5.1 r5.2))
set_option maxHeartbeats 4000000 in
theorem wfX5_findHardest_b29 {E : mm_E} (C : mm_Cx E RX5 cX5_findHardest 7 none 3 70) {K : mm_K} {th : Nat} (hk : K.1 th = 5) {nx sl : Nat} {k2 : Int32 → Int32 → mm_P → Option mm_P} (hk2 : ∀ (x1 : Int32) (x2 : Int32) (P : mm_P), mm_V E (mm_wwV K nx sl) 2 [some (.ref th), some (.int x1), some (.int x2), none, none, none, none] [] K P nx sl (k2 x1 x2 P)) : ∀ (n : Nat), ∀ (x1 : Int32) (x2 : Int32) (x3 : Int32) (x4 : Int32) (P : mm_P), mm_V E (mm_wwV K nx sl) 29 [some (.ref th), some (.int x1), some (.int x2), some (.int x3), some (.int x4), none, none] [] K P nx sl (fX5_findHardest_b29 th k2 n x1 x2 x3 x4 P) := by
  intro n
  induction n with
  | zero => intro x1 x2 x3 x4 P; exact r_none
  | succ n ih =>
    intro x1 x2 x3 x4 P
    rw [fX5_findHardest_b29]
    refine r_iload C dX5_findHardest_29 rfl ?_
    refine r_iload_n C dX5_findHardest_31 rfl rfl ?_
    refine r_icmpge (tgt := 104) C dX5_findHardest_32 (by decide) (fun h1 => ?_) (fun h1 => ?_)
    · refine r_iinc (v := 1) (ls' := [some (.ref th), some (.int x1), some (.int (x2 + (1 : Int32))), some (.int x3), some (.int x4), none, none]) C dX5_findHardest_104 rfl rfl (Nat.le_of_ble_eq_true rfl) rfl rfl ?_
      refine r_goto (tgt := 2) C dX5_findHardest_107 (by decide) ?_
      refine r_mask [true, true, true, false, false, true, true] (ls' := [some (.ref th), some (.int x1), some (.int (x2 + (1 : Int32))), none, none, none, none]) rfl ?_
      exact hk2 x1 (x2 + (1 : Int32)) P
    · refine r_aload_n C dX5_findHardest_35 rfl rfl ?_
      refine r_aload_n C dX5_findHardest_36 rfl rfl ?_
      refine r_getA C fl_X5_113 hk dX5_findHardest_37 ?_
      refine r_iconst (v := 0) C dX5_findHardest_40 rfl ?_
      refine r_iald C (rg_662 hk) rfl dX5_findHardest_41 fun h2 => ?_
      refine r_iload C dX5_findHardest_42 rfl ?_
      refine r_iadd C dX5_findHardest_44 ?_
      refine r_iconst (v := 0) C dX5_findHardest_45 rfl ?_
      refine r_bd fun r3 h4 => ?_
      refine r_callV (As := [.int ((gA P 662 th (0 : Int32).toNatClampNeg) + x4), .int (0 : Int32)]) (st := []) C (mc_X5_windOf hk h4) cv_X5_332 hk rfl (Nat.le_of_ble_eq_true rfl) (Nat.le_of_ble_eq_true rfl) rfl (Nat.le_of_ble_eq_true rfl) dX5_findHardest_46 ?_
      refine r_istore (ls' := [some (.ref th), some (.int x1), some (.int x2), some (.int x3), some (.int x4), some (.int r3), none]) C dX5_findHardest_49 (Nat.le_of_ble_eq_true rfl) rfl rfl ?_
      refine r_aload_n C dX5_findHardest_51 rfl rfl ?_
      refine r_iload_n C dX5_findHardest_52 rfl rfl ?_
      refine r_iload_n C dX5_findHardest_53 rfl rfl ?_
      refine r_iload C dX5_findHardest_54 rfl ?_
      refine r_bd fun r5 h6 => ?_
      refine r_callV (As := [.int x2, .int x3, .int r3]) (st := []) C (mc_X5_pullOf hk h6) cv_X5_317 hk rfl (Nat.le_of_ble_eq_true rfl) (Nat.le_of_ble_eq_true rfl) rfl (Nat.le_of_ble_eq_true rfl) dX5_findHardest_56 ?_
      refine r_istore (ls' := [some (.ref th), some (.int x1), some (.int x2), some (.int x3), some (.int x4), some (.int r3), some (.int r5.1)]) C dX5_findHardest_59 (Nat.le_of_ble_eq_true rfl) rfl rfl ?_
      refine r_aload_n C dX5_findHardest_61 rfl rfl ?_
      refine r_getA C fl_X5_120 hk dX5_findHardest_62 ?_
      refine r_iload_n C dX5_findHardest_65 rfl rfl ?_
      refine r_iload C dX5_findHardest_66 rfl ?_
      refine r_aload_n C dX5_findHardest_68 rfl rfl ?_
      refine r_getA C fl_X5_120 hk dX5_findHardest_69 ?_
      refine r_iload_n C dX5_findHardest_72 rfl rfl ?_
      refine r_iald C (rg_665 hk) rfl dX5_findHardest_73 fun h7 => ?_
      refine r_icmple (tgt := 82) C dX5_findHardest_74 (by decide) (fun h8 => ?_) (fun h8 => ?_)
      · refine r_aload_n C dX5_findHardest_82 rfl rfl ?_
        refine r_getA C fl_X5_120 hk dX5_findHardest_83 ?_
        refine r_iload_n C dX5_findHardest_86 rfl rfl ?_
        refine r_iald C (rg_665 hk) rfl dX5_findHardest_87 fun h9 => ?_
        refine r_mask [true, true, true, true, true, true, false] (ls' := [some (.ref th), some (.int x1), some (.int x2), some (.int x3), some (.int x4), some (.int r3), none]) rfl ?_
        exact wfX5_findHardest_b88 C hk hk2 ih x1 x2 x3 x4 r3 x2 (gA r5.2 665 th x2.toNatClampNeg) r5.2
      · refine r_iload C dX5_findHardest_77 rfl ?_
        refine r_goto (tgt := 88) C dX5_findHardest_79 (by decide) ?_
        refine r_mask [true, true, true, true, true, true, false] (ls' := [some (.ref th), some (.int x1), some (.int x2), some (.int x3), some (.int x4), some (.int r3), none]) rfl ?_
        exact wfX5_findHardest_b88 C hk hk2 ih x1 x2 x3 x4 r3 x2 r5.1 r5.2
def fX5_findHardest_b2 (th : Nat)  : Nat → Int32 → Int32 → mm_P → Option mm_P
  | 0, _, _, _ => none
  | n + 1, x1, x2, P =>
  mm_bd (fX5_cloths th P) fun r1 =>
  if r1 ≤ x2 then
  (some P)
  else
  (mm_gd (mm_in x2 6) <|
  mm_lt (sA P 665 th x2.toNatClampNeg (0 : Int32)) fun P5 =>
  mm_gd (mm_in ((2 : Int32) + x2) 1242) <|
  mm_lt (gA P5 662 th ((2 : Int32) + x2).toNatClampNeg) fun v7 =>
  fX5_findHardest_b29 th (fX5_findHardest_b2 th n) mm_NF x1 x2 v7 (0 : Int32) P5)
set_option maxHeartbeats 4000000 in
theorem wfX5_findHardest_b2 {E : mm_E} (C : mm_Cx E RX5 cX5_findHardest 7 none 3 70) {K : mm_K} {th : Nat} (hk : K.1 th = 5) {nx sl : Nat} : ∀ (n : Nat), ∀ (x1 : Int32) (x2 : Int32) (P : mm_P), mm_V E (mm_wwV K nx sl) 2 [some (.ref th), some (.int x1), some (.int x2), none, none, none, none] [] K P nx sl (fX5_findHardest_b2 th n x1 x2 P) := by
  intro n
  induction n with
  | zero => intro x1 x2 P; exact r_none
  | succ n ih =>
    intro x1 x2 P
    rw [fX5_findHardest_b2]
    refine r_iload_n C dX5_findHardest_2 rfl rfl ?_
    refine r_aload_n C dX5_findHardest_3 rfl rfl ?_
    refine r_bd fun r1 h2 => ?_
    refine r_callV (As := []) (st := [.int x2]) C (mc_X5_cloths hk h2) cv_X5_292 hk rfl (Nat.le_of_ble_eq_true rfl) (Nat.le_of_ble_eq_true rfl) rfl (Nat.le_of_ble_eq_true rfl) dX5_findHardest_4 ?_
    refine r_icmpge (tgt := 110) C dX5_findHardest_7 (by decide) (fun h3 => ?_) (fun h3 => ?_)
    · exact r_vret C dX5_findHardest_110 rfl
    · refine r_aload_n C dX5_findHardest_10 rfl rfl ?_
      refine r_getA C fl_X5_120 hk dX5_findHardest_11 ?_
      refine r_iload_n C dX5_findHardest_14 rfl rfl ?_
      refine r_iconst (v := 0) C dX5_findHardest_15 rfl ?_
      refine r_iast C (rg_665 hk) (mm_ro_of (k := 5) hk rfl) rfl dX5_findHardest_16 fun h4 => ?_
      refine r_ltP fun P5 => ?_
      refine r_aload_n C dX5_findHardest_17 rfl rfl ?_
      refine r_getA C fl_X5_113 hk dX5_findHardest_18 ?_
      refine r_iconst (v := 2) C dX5_findHardest_21 rfl ?_
      refine r_iload_n C dX5_findHardest_22 rfl rfl ?_
      refine r_iadd C dX5_findHardest_23 ?_
      refine r_iald C (rg_662 hk) rfl dX5_findHardest_24 fun h6 => ?_
      refine r_ltI fun v7 => ?_
      refine r_istore_n (ls' := [some (.ref th), some (.int x1), some (.int x2), some (.int v7), none, none, none]) C dX5_findHardest_25 rfl (Nat.le_of_ble_eq_true rfl) rfl rfl ?_
      refine r_iconst (v := 0) C dX5_findHardest_26 rfl ?_
      refine r_istore (ls' := [some (.ref th), some (.int x1), some (.int x2), some (.int v7), some (.int (0 : Int32)), none, none]) C dX5_findHardest_27 (Nat.le_of_ble_eq_true rfl) rfl rfl ?_
      exact wfX5_findHardest_b29 C hk ih mm_NF x1 x2 v7 (0 : Int32) P5
def fX5_findHardest (th : Nat) (x1 : Int32) (P : mm_P) : Option mm_P :=
  fX5_findHardest_b2 th mm_NF x1 (0 : Int32) P
set_option maxHeartbeats 4000000 in
theorem mc_X5_findHardest {l : Launch} {K : mm_K} {P : mm_P} {th : Nat} {x1 : Int32} {nx sl : Nat} {r : mm_P} (hk : K.1 th = 5) (h : fX5_findHardest th x1 P = some r) : mm_C l yX5_findHardest (ws_ yX5_findHardest cX5_findHardest 7 none) 3 70 [.ref th, .int x1] K P nx sl (mm_wwV K nx sl r) :=
  mm_start (ls := [some (.ref th), some (.int x1), none, none, none, none, none]) h (by decide) (Nat.le_of_ble_eq_true rfl) rfl (Nat.le_refl _) (Nat.le_refl _) rfl fun E hl9 _ _ _ C => by
  have C : mm_Cx E RX5 cX5_findHardest 7 none 3 70 := C
  unfold fX5_findHardest
  refine r_iconst (v := 0) C dX5_findHardest_0 rfl ?_
  refine r_istore_n (ls' := [some (.ref th), some (.int x1), some (.int (0 : Int32)), none, none, none, none]) C dX5_findHardest_1 rfl (Nat.le_of_ble_eq_true rfl) rfl rfl ?_
  exact wfX5_findHardest_b2 C hk mm_NF x1 (0 : Int32) P
/-! fills -/
def fX5_fills_b194 (th : Nat) (kS : (Int32 → Int32 → Int32 → Int32 → mm_P → Option mm_P))  (x1 : Int32) (x2 : Int32) (x3 : Int32) (x4 : Int32) (P : mm_P) : Option mm_P :=
  mm_gd (mm_in x1 6) <|
  mm_lt (sA P 666 th x1.toNatClampNeg (0 : Int32)) fun P2 =>
  mm_bd (kS (x1 + (1 : Int32)) x2 x3 x4 P2) fun r3 =>
  some r3
set_option maxHeartbeats 4000000 in
theorem wfX5_fills_b194 {E : mm_E} {FR LC FRS LCS : Nat} (hFR : FRS + 1 ≤ FR) (hFb : 2 ≤ FR) (hLC : LCS + 26 ≤ LC) (hLb : 43 ≤ LC) (C : mm_Cx E RX5 cX5_fills 7 none FR LC) {K : mm_K} {th : Nat} (hk : K.1 th = 5) {nx sl : Nat} {kS : (Int32 → Int32 → Int32 → Int32 → mm_P → Option mm_P)} (hkS : ∀ (z0 : Int32) (z1 : Int32) (z2 : Int32) (z3 : Int32) (P : mm_P) (r : mm_P), kS z0 z1 z2 z3 P = some r → mm_C (eL E) yX5_fills (ws_ yX5_fills cX5_fills 7 none) FRS LCS [.ref th, .int z0, .int z1, .int z2, .int z3] K P nx sl (mm_wwV K nx sl r)) (x1 : Int32) (x2 : Int32) (x3 : Int32) (x4 : Int32) (P : mm_P) : mm_V E (mm_wwV K nx sl) 194 [some (.ref th), some (.int x1), some (.int x2), some (.int x3), some (.int x4), none, none] [] K P nx sl (fX5_fills_b194 th kS x1 x2 x3 x4 P) := by
  unfold fX5_fills_b194
  refine r_aload_n C dX5_fills_194 rfl rfl ?_
  refine r_getA C fl_X5_123 hk dX5_fills_195 ?_
  refine r_iload_n C dX5_fills_198 rfl rfl ?_
  refine r_iconst (v := 0) C dX5_fills_199 rfl ?_
  refine r_iast C (rg_666 hk) (mm_ro_of (k := 5) hk rfl) rfl dX5_fills_200 fun h1 => ?_
  refine r_ltP fun P2 => ?_
  refine r_aload_n C dX5_fills_201 rfl rfl ?_
  refine r_iload_n C dX5_fills_202 rfl rfl ?_
  refine r_iconst (v := 1) C dX5_fills_203 rfl ?_
  refine r_iadd C dX5_fills_204 ?_
  refine r_iload_n C dX5_fills_205 rfl rfl ?_
  refine r_iload_n C dX5_fills_206 rfl rfl ?_
  refine r_iload C dX5_fills_207 rfl ?_
  refine r_bd fun r3 h4 => ?_
  refine r_callVv (As := [.int (x1 + (1 : Int32)), .int x2, .int x3, .int x4]) (st := []) C (hkS _ _ _ _ _ _ h4) cv_X5_397 hk rfl (by omega) (by omega) rfl (Nat.le_of_ble_eq_true rfl) dX5_fills_209 ?_
  exact r_vret C dX5_fills_212 rfl
def fX5_fills_b98 (th : Nat) (kS : (Int32 → Int32 → Int32 → Int32 → mm_P → Option mm_P))  : Nat → Int32 → Int32 → Int32 → Int32 → Int32 → Int32 → mm_P → Option mm_P
  | 0, _, _, _, _, _, _, _ => none
  | n + 1, x1, x2, x3, x4, x5, x6, P =>
  if (gI P 669 th) < x6 then
  (fX5_fills_b194 th kS x1 x2 x3 x4 P)
  else
  (if x5 = 0 then
  (fX5_fills_b194 th kS x1 x2 x3 x4 P)
  else
  (if (x6 &&& (x2 ^^^ (-1 : Int32))) ≠ 0 then
  (fX5_fills_b98 th kS n x1 x2 x3 x4 x5 (x6 + (1 : Int32)) P)
  else
  (mm_bd (fX5_bits x6) fun r4 =>
  mm_bd (fX5_needs th P x1) fun r6 =>
  if r4 ≠ r6 then
  (fX5_fills_b98 th kS n x1 x2 x3 x4 x5 (x6 + (1 : Int32)) P)
  else
  (mm_bd (fX5_gripsOf th P (0 : Int32) x6) fun r9 =>
  mm_gd (mm_in x1 6) <|
  if r9 < (gA P 665 th x1.toNatClampNeg) then
  (fX5_fills_b98 th kS n x1 x2 x3 x4 x5 (x6 + (1 : Int32)) P)
  else
  (mm_gd (mm_in x1 6) <|
  mm_lt (sA P 666 th x1.toNatClampNeg x6) fun P14 =>
  mm_bd (fX5_clothOf th P14 x1 (1 : Int32)) fun r15 =>
  mm_bd (fX5_clothOf th P14 x1 (3 : Int32)) fun r17 =>
  mm_bd (kS (x1 + (1 : Int32)) (x2 &&& (x6 ^^^ (-1 : Int32))) (x3 - r15) (x4 + r17) P14) fun r19 =>
  fX5_fills_b98 th kS n x1 x2 x3 x4 x5 (x6 + (1 : Int32)) r19)))))
set_option maxHeartbeats 4000000 in
theorem wfX5_fills_b98 {E : mm_E} {FR LC FRS LCS : Nat} (hFR : FRS + 1 ≤ FR) (hFb : 2 ≤ FR) (hLC : LCS + 26 ≤ LC) (hLb : 43 ≤ LC) (C : mm_Cx E RX5 cX5_fills 7 none FR LC) {K : mm_K} {th : Nat} (hk : K.1 th = 5) {nx sl : Nat} {kS : (Int32 → Int32 → Int32 → Int32 → mm_P → Option mm_P)} (hkS : ∀ (z0 : Int32) (z1 : Int32) (z2 : Int32) (z3 : Int32) (P : mm_P) (r : mm_P), kS z0 z1 z2 z3 P = some r → mm_C (eL E) yX5_fills (ws_ yX5_fills cX5_fills 7 none) FRS LCS [.ref th, .int z0, .int z1, .int z2, .int z3] K P nx sl (mm_wwV K nx sl r)) : ∀ (n : Nat), ∀ (x1 : Int32) (x2 : Int32) (x3 : Int32) (x4 : Int32) (x5 : Int32) (x6 : Int32) (P : mm_P), mm_V E (mm_wwV K nx sl) 98 [some (.ref th), some (.int x1), some (.int x2), some (.int x3), some (.int x4), some (.int x5), some (.int x6)] [] K P nx sl (fX5_fills_b98 th kS n x1 x2 x3 x4 x5 x6 P) := by
  intro n
  induction n with
  | zero => intro x1 x2 x3 x4 x5 x6 P; exact r_none
  | succ n ih =>
    intro x1 x2 x3 x4 x5 x6 P
    rw [fX5_fills_b98]
    refine r_iload C dX5_fills_98 rfl ?_
    refine r_aload_n C dX5_fills_100 rfl rfl ?_
    refine r_getI (code := 669) C fl_X5_394 hk rfl dX5_fills_101 ?_
    refine r_icmpgt (tgt := 194) C dX5_fills_104 (by decide) (fun h1 => ?_) (fun h1 => ?_)
    · refine r_mask [true, true, true, true, true, false, false] (ls' := [some (.ref th), some (.int x1), some (.int x2), some (.int x3), some (.int x4), none, none]) rfl ?_
      exact wfX5_fills_b194 hFR hFb hLC hLb C hk hkS x1 x2 x3 x4 P
    · refine r_iload C dX5_fills_107 rfl ?_
      refine r_ifeq (tgt := 194) C dX5_fills_109 (by decide) (fun h2 => ?_) (fun h2 => ?_)
      · refine r_mask [true, true, true, true, true, false, false] (ls' := [some (.ref th), some (.int x1), some (.int x2), some (.int x3), some (.int x4), none, none]) rfl ?_
        exact wfX5_fills_b194 hFR hFb hLC hLb C hk hkS x1 x2 x3 x4 P
      · refine r_iload C dX5_fills_112 rfl ?_
        refine r_iload_n C dX5_fills_114 rfl rfl ?_
        refine r_iconst (v := -1) C dX5_fills_115 rfl ?_
        refine r_ixor C dX5_fills_116 ?_
        refine r_iand C dX5_fills_117 ?_
        refine r_ifne (tgt := 188) C dX5_fills_118 (by decide) (fun h3 => ?_) (fun h3 => ?_)
        · refine r_iinc (v := 1) (ls' := [some (.ref th), some (.int x1), some (.int x2), some (.int x3), some (.int x4), some (.int x5), some (.int (x6 + (1 : Int32)))]) C dX5_fills_188 rfl rfl (Nat.le_of_ble_eq_true rfl) rfl rfl ?_
          refine r_goto (tgt := 98) C dX5_fills_191 (by decide) ?_
          exact ih x1 x2 x3 x4 x5 (x6 + (1 : Int32)) P
        · refine r_iload C dX5_fills_121 rfl ?_
          refine r_bd fun r4 h5 => ?_
          refine r_callS (As := [.int x6]) (st := []) C (mc_X5_bits h5) cv_X5_298  rfl (by omega) (by omega) rfl (Nat.le_of_ble_eq_true rfl) dX5_fills_123 ?_
          refine r_aload_n C dX5_fills_126 rfl rfl ?_
          refine r_iload_n C dX5_fills_127 rfl rfl ?_
          refine r_bd fun r6 h7 => ?_
          refine r_callV (As := [.int x1]) (st := [.int r4]) C (mc_X5_needs hk h7) cv_X5_301 hk rfl (by omega) (by omega) rfl (Nat.le_of_ble_eq_true rfl) dX5_fills_128 ?_
          refine r_icmpne (tgt := 188) C dX5_fills_131 (by decide) (fun h8 => ?_) (fun h8 => ?_)
          · refine r_iinc (v := 1) (ls' := [some (.ref th), some (.int x1), some (.int x2), some (.int x3), some (.int x4), some (.int x5), some (.int (x6 + (1 : Int32)))]) C dX5_fills_188 rfl rfl (Nat.le_of_ble_eq_true rfl) rfl rfl ?_
            refine r_goto (tgt := 98) C dX5_fills_191 (by decide) ?_
            exact ih x1 x2 x3 x4 x5 (x6 + (1 : Int32)) P
          · refine r_aload_n C dX5_fills_134 rfl rfl ?_
            refine r_iconst (v := 0) C dX5_fills_135 rfl ?_
            refine r_iload C dX5_fills_136 rfl ?_
            refine r_bd fun r9 h10 => ?_
            refine r_callV (As := [.int (0 : Int32), .int x6]) (st := []) C (mc_X5_gripsOf hk h10) cv_X5_320 hk rfl (by omega) (by omega) rfl (Nat.le_of_ble_eq_true rfl) dX5_fills_138 ?_
            refine r_aload_n C dX5_fills_141 rfl rfl ?_
            refine r_getA C fl_X5_120 hk dX5_fills_142 ?_
            refine r_iload_n C dX5_fills_145 rfl rfl ?_
            refine r_iald C (rg_665 hk) rfl dX5_fills_146 fun h11 => ?_
            refine r_icmplt (tgt := 188) C dX5_fills_147 (by decide) (fun h12 => ?_) (fun h12 => ?_)
            · refine r_iinc (v := 1) (ls' := [some (.ref th), some (.int x1), some (.int x2), some (.int x3), some (.int x4), some (.int x5), some (.int (x6 + (1 : Int32)))]) C dX5_fills_188 rfl rfl (Nat.le_of_ble_eq_true rfl) rfl rfl ?_
              refine r_goto (tgt := 98) C dX5_fills_191 (by decide) ?_
              exact ih x1 x2 x3 x4 x5 (x6 + (1 : Int32)) P
            · refine r_aload_n C dX5_fills_150 rfl rfl ?_
              refine r_getA C fl_X5_123 hk dX5_fills_151 ?_
              refine r_iload_n C dX5_fills_154 rfl rfl ?_
              refine r_iload C dX5_fills_155 rfl ?_
              refine r_iast C (rg_666 hk) (mm_ro_of (k := 5) hk rfl) rfl dX5_fills_157 fun h13 => ?_
              refine r_ltP fun P14 => ?_
              refine r_aload_n C dX5_fills_158 rfl rfl ?_
              refine r_iload_n C dX5_fills_159 rfl rfl ?_
              refine r_iconst (v := 1) C dX5_fills_160 rfl ?_
              refine r_iadd C dX5_fills_161 ?_
              refine r_iload_n C dX5_fills_162 rfl rfl ?_
              refine r_iload C dX5_fills_163 rfl ?_
              refine r_iconst (v := -1) C dX5_fills_165 rfl ?_
              refine r_ixor C dX5_fills_166 ?_
              refine r_iand C dX5_fills_167 ?_
              refine r_iload_n C dX5_fills_168 rfl rfl ?_
              refine r_aload_n C dX5_fills_169 rfl rfl ?_
              refine r_iload_n C dX5_fills_170 rfl rfl ?_
              refine r_iconst (v := 1) C dX5_fills_171 rfl ?_
              refine r_bd fun r15 h16 => ?_
              refine r_callV (As := [.int x1, .int (1 : Int32)]) (st := [.int x3, .int (x2 &&& (x6 ^^^ (-1 : Int32))), .int (x1 + (1 : Int32)), .ref th]) C (mc_X5_clothOf hk h16) cv_X5_295 hk rfl (by omega) (by omega) rfl (Nat.le_of_ble_eq_true rfl) dX5_fills_172 ?_
              refine r_isub C dX5_fills_175 ?_
              refine r_iload C dX5_fills_176 rfl ?_
              refine r_aload_n C dX5_fills_178 rfl rfl ?_
              refine r_iload_n C dX5_fills_179 rfl rfl ?_
              refine r_iconst (v := 3) C dX5_fills_180 rfl ?_
              refine r_bd fun r17 h18 => ?_
              refine r_callV (As := [.int x1, .int (3 : Int32)]) (st := [.int x4, .int (x3 - r15), .int (x2 &&& (x6 ^^^ (-1 : Int32))), .int (x1 + (1 : Int32)), .ref th]) C (mc_X5_clothOf hk h18) cv_X5_295 hk rfl (by omega) (by omega) rfl (Nat.le_of_ble_eq_true rfl) dX5_fills_181 ?_
              refine r_iadd C dX5_fills_184 ?_
              refine r_bd fun r19 h20 => ?_
              refine r_callVv (As := [.int (x1 + (1 : Int32)), .int (x2 &&& (x6 ^^^ (-1 : Int32))), .int (x3 - r15), .int (x4 + r17)]) (st := []) C (hkS _ _ _ _ _ _ h20) cv_X5_397 hk rfl (by omega) (by omega) rfl (Nat.le_of_ble_eq_true rfl) dX5_fills_185 ?_
              refine r_iinc (v := 1) (ls' := [some (.ref th), some (.int x1), some (.int x2), some (.int x3), some (.int x4), some (.int x5), some (.int (x6 + (1 : Int32)))]) C dX5_fills_188 rfl rfl (Nat.le_of_ble_eq_true rfl) rfl rfl ?_
              refine r_goto (tgt := 98) C dX5_fills_191 (by decide) ?_
              exact ih x1 x2 x3 x4 x5 (x6 + (1 : Int32)) r19
def fX5_fills_b26 (th : Nat) (kS : (Int32 → Int32 → Int32 → Int32 → mm_P → Option mm_P))  : Nat → Int32 → Int32 → mm_P → Option mm_P
  | 0, _, _, _ => none
  | n + 1, x1, x5, P =>
  if x1 ≤ x5 then
  (some P)
  else
  (mm_gd (mm_in x5 6) <|
  mm_gd (mm_in x5 6) <|
  mm_lt (sA P 667 th x5.toNatClampNeg (gA P 666 th x5.toNatClampNeg)) fun P4 =>
  fX5_fills_b26 th kS n x1 (x5 + (1 : Int32)) P4)
set_option maxHeartbeats 4000000 in
theorem wfX5_fills_b26 {E : mm_E} {FR LC FRS LCS : Nat} (hFR : FRS + 1 ≤ FR) (hFb : 2 ≤ FR) (hLC : LCS + 26 ≤ LC) (hLb : 43 ≤ LC) (C : mm_Cx E RX5 cX5_fills 7 none FR LC) {K : mm_K} {th : Nat} (hk : K.1 th = 5) {nx sl : Nat} {kS : (Int32 → Int32 → Int32 → Int32 → mm_P → Option mm_P)} (hkS : ∀ (z0 : Int32) (z1 : Int32) (z2 : Int32) (z3 : Int32) (P : mm_P) (r : mm_P), kS z0 z1 z2 z3 P = some r → mm_C (eL E) yX5_fills (ws_ yX5_fills cX5_fills 7 none) FRS LCS [.ref th, .int z0, .int z1, .int z2, .int z3] K P nx sl (mm_wwV K nx sl r)) : ∀ (n : Nat), ∀ (x1 : Int32) (x5 : Int32) (P : mm_P), mm_V E (mm_wwV K nx sl) 26 [some (.ref th), some (.int x1), none, none, none, some (.int x5), none] [] K P nx sl (fX5_fills_b26 th kS n x1 x5 P) := by
  intro n
  induction n with
  | zero => intro x1 x5 P; exact r_none
  | succ n ih =>
    intro x1 x5 P
    rw [fX5_fills_b26]
    refine r_iload C dX5_fills_26 rfl ?_
    refine r_iload_n C dX5_fills_28 rfl rfl ?_
    refine r_icmpge (tgt := 52) C dX5_fills_29 (by decide) (fun h1 => ?_) (fun h1 => ?_)
    · exact r_vret C dX5_fills_52 rfl
    · refine r_aload_n C dX5_fills_32 rfl rfl ?_
      refine r_getA C fl_X5_126 hk dX5_fills_33 ?_
      refine r_iload C dX5_fills_36 rfl ?_
      refine r_aload_n C dX5_fills_38 rfl rfl ?_
      refine r_getA C fl_X5_123 hk dX5_fills_39 ?_
      refine r_iload C dX5_fills_42 rfl ?_
      refine r_iald C (rg_666 hk) rfl dX5_fills_44 fun h2 => ?_
      refine r_iast C (rg_667 hk) (mm_ro_of (k := 5) hk rfl) rfl dX5_fills_45 fun h3 => ?_
      refine r_ltP fun P4 => ?_
      refine r_iinc (v := 1) (ls' := [some (.ref th), some (.int x1), none, none, none, some (.int (x5 + (1 : Int32))), none]) C dX5_fills_46 rfl rfl (Nat.le_of_ble_eq_true rfl) rfl rfl ?_
      refine r_goto (tgt := 26) C dX5_fills_49 (by decide) ?_
      exact ih x1 (x5 + (1 : Int32)) P4
def fX5_fills_o (th : Nat) (kS : (Int32 → Int32 → Int32 → Int32 → mm_P → Option mm_P)) (x1 : Int32) (x2 : Int32) (x3 : Int32) (x4 : Int32) (P : mm_P) : Option mm_P :=
  mm_bd (fX5_cloths th P) fun r1 =>
  if x1 ≠ r1 then
  (mm_gd (mm_in ((8 : Int32) + x1) 1242) <|
  if (3 : Int32) ≤ (gA P 662 th ((8 : Int32) + x1).toNatClampNeg) then
  (fX5_fills_b98 th kS mm_NF x1 x2 x3 x4 (0 : Int32) (1 : Int32) P)
  else
  (mm_bd (fX5_clothOf th P x1 (1 : Int32)) fun r6 =>
  if x3 < r6 then
  (fX5_fills_b98 th kS mm_NF x1 x2 x3 x4 (0 : Int32) (1 : Int32) P)
  else
  (mm_bd (fX5_bits x2) fun r9 =>
  mm_bd (fX5_needs th P x1) fun r11 =>
  if r9 < r11 then
  (fX5_fills_b98 th kS mm_NF x1 x2 x3 x4 (0 : Int32) (1 : Int32) P)
  else
  (fX5_fills_b98 th kS mm_NF x1 x2 x3 x4 (1 : Int32) (1 : Int32) P))))
  else
  (if x4 ≤ (gI P 668 th) then
  (some P)
  else
  (mm_lt (sI P 668 th x4) fun P15 =>
  fX5_fills_b26 th kS mm_NF x1 (0 : Int32) P15))
def fX5_fills (th : Nat) : Nat → Int32 → Int32 → Int32 → Int32 → mm_P → Option mm_P
  | 0, _, _, _, _, _ => none
  | d + 1, x1, x2, x3, x4, P => fX5_fills_o th (fX5_fills th d) x1 x2 x3 x4 P
set_option maxHeartbeats 4000000 in
theorem mc_X5_fills {l : Launch} {K : mm_K} {th : Nat} {nx sl : Nat} : ∀ (d : Nat) {x1 : Int32} {x2 : Int32} {x3 : Int32} {x4 : Int32} {P : mm_P} {r : mm_P} (hk : K.1 th = 5) (_ : fX5_fills th d x1 x2 x3 x4 P = some r), mm_C l yX5_fills (ws_ yX5_fills cX5_fills 7 none) (1 * d + 2) (26 * d + 43) [.ref th, .int x1, .int x2, .int x3, .int x4] K P nx sl (mm_wwV K nx sl r) := by
  intro d
  induction d with
  | zero => intro x1 x2 x3 x4 P r hk h; cases h
  | succ d ih =>
  intro x1 x2 x3 x4 P r hk h
  refine mm_start (ls := [some (.ref th), some (.int x1), some (.int x2), some (.int x3), some (.int x4), none, none]) (x := fX5_fills_o th (fX5_fills th d) x1 x2 x3 x4 P) h (by decide) (Nat.le_of_ble_eq_true rfl) rfl (Nat.le_refl _) (Nat.le_refl _) rfl fun E hl _ _ _ C => ?_
  have C : mm_Cx E RX5 cX5_fills 7 none (1 * (d + 1) + 2) (26 * (d + 1) + 43) := C
  generalize hFe : (1 * (d + 1) + 2) = FR at C
  generalize hLe : (26 * (d + 1) + 43) = LC at C
  generalize hFs : (1 * d + 2) = FRS at ih
  generalize hLs : (26 * d + 43) = LCS at ih
  have hFR : FRS + 1 ≤ FR := by omega
  have hFb : 2 ≤ FR := by omega
  have hLC : LCS + 26 ≤ LC := by omega
  have hLb : 43 ≤ LC := by omega
  subst hl
  have hkS := fun x1 x2 x3 x4 P r (hq : fX5_fills th d x1 x2 x3 x4 P = some r) => ih hk hq
  clear hFe hLe h hFs hLs ih
  generalize fX5_fills th d = kS at hkS ⊢
  unfold fX5_fills_o
  refine r_iload_n C dX5_fills_0 rfl rfl ?_
  refine r_aload_n C dX5_fills_1 rfl rfl ?_
  refine r_bd fun r1 h2 => ?_
  refine r_callV (As := []) (st := [.int x1]) C (mc_X5_cloths hk h2) cv_X5_292 hk rfl (by omega) (by omega) rfl (Nat.le_of_ble_eq_true rfl) dX5_fills_2 ?_
  refine r_icmpne (tgt := 53) C dX5_fills_5 (by decide) (fun h3 => ?_) (fun h3 => ?_)
  · refine r_aload_n C dX5_fills_53 rfl rfl ?_
    refine r_getA C fl_X5_113 hk dX5_fills_54 ?_
    refine r_bipush (v := 8) C dX5_fills_57 rfl ?_
    refine r_iload_n C dX5_fills_59 rfl rfl ?_
    refine r_iadd C dX5_fills_60 ?_
    refine r_iald C (rg_662 hk) rfl dX5_fills_61 fun h4 => ?_
    refine r_iconst (v := 3) C dX5_fills_62 rfl ?_
    refine r_icmpge (tgt := 92) C dX5_fills_63 (by decide) (fun h5 => ?_) (fun h5 => ?_)
    · refine r_iconst (v := 0) C dX5_fills_92 rfl ?_
      refine r_istore (ls' := [some (.ref th), some (.int x1), some (.int x2), some (.int x3), some (.int x4), some (.int (0 : Int32)), none]) C dX5_fills_93 (Nat.le_of_ble_eq_true rfl) rfl rfl ?_
      refine r_iconst (v := 1) C dX5_fills_95 rfl ?_
      refine r_istore (ls' := [some (.ref th), some (.int x1), some (.int x2), some (.int x3), some (.int x4), some (.int (0 : Int32)), some (.int (1 : Int32))]) C dX5_fills_96 (Nat.le_of_ble_eq_true rfl) rfl rfl ?_
      exact wfX5_fills_b98 hFR hFb hLC hLb C hk hkS mm_NF x1 x2 x3 x4 (0 : Int32) (1 : Int32) P
    · refine r_aload_n C dX5_fills_66 rfl rfl ?_
      refine r_iload_n C dX5_fills_67 rfl rfl ?_
      refine r_iconst (v := 1) C dX5_fills_68 rfl ?_
      refine r_bd fun r6 h7 => ?_
      refine r_callV (As := [.int x1, .int (1 : Int32)]) (st := []) C (mc_X5_clothOf hk h7) cv_X5_295 hk rfl (by omega) (by omega) rfl (Nat.le_of_ble_eq_true rfl) dX5_fills_69 ?_
      refine r_iload_n C dX5_fills_72 rfl rfl ?_
      refine r_icmpgt (tgt := 92) C dX5_fills_73 (by decide) (fun h8 => ?_) (fun h8 => ?_)
      · refine r_iconst (v := 0) C dX5_fills_92 rfl ?_
        refine r_istore (ls' := [some (.ref th), some (.int x1), some (.int x2), some (.int x3), some (.int x4), some (.int (0 : Int32)), none]) C dX5_fills_93 (Nat.le_of_ble_eq_true rfl) rfl rfl ?_
        refine r_iconst (v := 1) C dX5_fills_95 rfl ?_
        refine r_istore (ls' := [some (.ref th), some (.int x1), some (.int x2), some (.int x3), some (.int x4), some (.int (0 : Int32)), some (.int (1 : Int32))]) C dX5_fills_96 (Nat.le_of_ble_eq_true rfl) rfl rfl ?_
        exact wfX5_fills_b98 hFR hFb hLC hLb C hk hkS mm_NF x1 x2 x3 x4 (0 : Int32) (1 : Int32) P
      · refine r_iload_n C dX5_fills_76 rfl rfl ?_
        refine r_bd fun r9 h10 => ?_
        refine r_callS (As := [.int x2]) (st := []) C (mc_X5_bits h10) cv_X5_298  rfl (by omega) (by omega) rfl (Nat.le_of_ble_eq_true rfl) dX5_fills_77 ?_
        refine r_aload_n C dX5_fills_80 rfl rfl ?_
        refine r_iload_n C dX5_fills_81 rfl rfl ?_
        refine r_bd fun r11 h12 => ?_
        refine r_callV (As := [.int x1]) (st := [.int r9]) C (mc_X5_needs hk h12) cv_X5_301 hk rfl (by omega) (by omega) rfl (Nat.le_of_ble_eq_true rfl) dX5_fills_82 ?_
        refine r_icmplt (tgt := 92) C dX5_fills_85 (by decide) (fun h13 => ?_) (fun h13 => ?_)
        · refine r_iconst (v := 0) C dX5_fills_92 rfl ?_
          refine r_istore (ls' := [some (.ref th), some (.int x1), some (.int x2), some (.int x3), some (.int x4), some (.int (0 : Int32)), none]) C dX5_fills_93 (Nat.le_of_ble_eq_true rfl) rfl rfl ?_
          refine r_iconst (v := 1) C dX5_fills_95 rfl ?_
          refine r_istore (ls' := [some (.ref th), some (.int x1), some (.int x2), some (.int x3), some (.int x4), some (.int (0 : Int32)), some (.int (1 : Int32))]) C dX5_fills_96 (Nat.le_of_ble_eq_true rfl) rfl rfl ?_
          exact wfX5_fills_b98 hFR hFb hLC hLb C hk hkS mm_NF x1 x2 x3 x4 (0 : Int32) (1 : Int32) P
        · refine r_iconst (v := 1) C dX5_fills_88 rfl ?_
          refine r_goto (tgt := 93) C dX5_fills_89 (by decide) ?_
          refine r_istore (ls' := [some (.ref th), some (.int x1), some (.int x2), some (.int x3), some (.int x4), some (.int (1 : Int32)), none]) C dX5_fills_93 (Nat.le_of_ble_eq_true rfl) rfl rfl ?_
          refine r_iconst (v := 1) C dX5_fills_95 rfl ?_
          refine r_istore (ls' := [some (.ref th), some (.int x1), some (.int x2), some (.int x3), some (.int x4), some (.int (1 : Int32)), some (.int (1 : Int32))]) C dX5_fills_96 (Nat.le_of_ble_eq_true rfl) rfl rfl ?_
          exact wfX5_fills_b98 hFR hFb hLC hLb C hk hkS mm_NF x1 x2 x3 x4 (1 : Int32) (1 : Int32) P
  · refine r_iload C dX5_fills_8 rfl ?_
    refine r_aload_n C dX5_fills_10 rfl rfl ?_
    refine r_getI (code := 668) C fl_X5_391 hk rfl dX5_fills_11 ?_
    refine r_icmple (tgt := 52) C dX5_fills_14 (by decide) (fun h14 => ?_) (fun h14 => ?_)
    · exact r_vret C dX5_fills_52 rfl
    · refine r_aload_n C dX5_fills_17 rfl rfl ?_
      refine r_iload C dX5_fills_18 rfl ?_
      refine r_putI (code := 668) C fl_X5_391 hk rfl rfl dX5_fills_20 ?_
      refine r_ltP fun P15 => ?_
      refine r_iconst (v := 0) C dX5_fills_23 rfl ?_
      refine r_istore (ls' := [some (.ref th), some (.int x1), some (.int x2), some (.int x3), some (.int x4), some (.int (0 : Int32)), none]) C dX5_fills_24 (Nat.le_of_ble_eq_true rfl) rfl rfl ?_
      refine r_mask [true, true, false, false, false, true, true] (ls' := [some (.ref th), some (.int x1), none, none, none, some (.int (0 : Int32)), none]) rfl ?_
      exact wfX5_fills_b26 hFR hFb hLC hLb C hk hkS mm_NF x1 (0 : Int32) P15
/-! fill -/
def fX5_fill_b55 (th : Nat)  : Nat → Int32 → Int32 → Int32 → mm_P → Option (Int32 × mm_P)
  | 0, _, _, _, _ => none
  | n + 1, x2, x3, x4, P =>
  mm_gd (mm_in (1 : Int32) 1242) <|
  if (gA P 662 th (1 : Int32).toNatClampNeg) ≤ x4 then
  (mm_lt (sI P 668 th (-1 : Int32)) fun P3 =>
  mm_gd (mm_in (3 : Int32) 200) <|
  mm_bd (fX5_fills th 8 (0 : Int32) x3 (gA P3 650 th (3 : Int32).toNatClampNeg) (0 : Int32) P3) fun r5 =>
  if 0 ≤ x2 then
  (mm_gd (mm_in x2 6) <|
  some (gA r5 667 th x2.toNatClampNeg, r5))
  else
  (some (gI r5 668 th, r5)))
  else
  (mm_gd (mm_in ((20 : Int32) + x4) 1242) <|
  if (gA P 662 th ((20 : Int32) + x4).toNatClampNeg) ≤ 0 then
  (mm_lt (x3 ||| (0 : Int32)) fun v11 =>
  fX5_fill_b55 th n x2 v11 (x4 + (1 : Int32)) P)
  else
  (mm_lt (x3 ||| (mm_shl (1 : Int32) x4)) fun v12 =>
  fX5_fill_b55 th n x2 v12 (x4 + (1 : Int32)) P))
set_option maxHeartbeats 4000000 in
theorem wfX5_fill_b55 {E : mm_E} (C : mm_Cx E RX5 cX5_fill 5 (some .int) 11 277) {K : mm_K} {th : Nat} (hk : K.1 th = 5) {nx sl : Nat} : ∀ (n : Nat), ∀ (x2 : Int32) (x3 : Int32) (x4 : Int32) (P : mm_P), mm_V E (mm_wwI K nx sl) 55 [some (.ref th), none, some (.int x2), some (.int x3), some (.int x4)] [] K P nx sl (fX5_fill_b55 th n x2 x3 x4 P) := by
  intro n
  induction n with
  | zero => intro x2 x3 x4 P; exact r_none
  | succ n ih =>
    intro x2 x3 x4 P
    rw [fX5_fill_b55]
    refine r_iload C dX5_fill_55 rfl ?_
    refine r_aload_n C dX5_fill_57 rfl rfl ?_
    refine r_getA C fl_X5_113 hk dX5_fill_58 ?_
    refine r_iconst (v := 1) C dX5_fill_61 rfl ?_
    refine r_iald C (rg_662 hk) rfl dX5_fill_62 fun h1 => ?_
    refine r_icmpge (tgt := 96) C dX5_fill_63 (by decide) (fun h2 => ?_) (fun h2 => ?_)
    · refine r_aload_n C dX5_fill_96 rfl rfl ?_
      refine r_iconst (v := -1) C dX5_fill_97 rfl ?_
      refine r_putI (code := 668) C fl_X5_391 hk rfl rfl dX5_fill_98 ?_
      refine r_ltP fun P3 => ?_
      refine r_aload_n C dX5_fill_101 rfl rfl ?_
      refine r_iconst (v := 0) C dX5_fill_102 rfl ?_
      refine r_iload_n C dX5_fill_103 rfl rfl ?_
      refine r_aload_n C dX5_fill_104 rfl rfl ?_
      refine r_getA C fl_X5_89 hk dX5_fill_105 ?_
      refine r_iconst (v := 3) C dX5_fill_108 rfl ?_
      refine r_iald C (rg_650 hk) rfl dX5_fill_109 fun h4 => ?_
      refine r_iconst (v := 0) C dX5_fill_110 rfl ?_
      refine r_bd fun r5 h6 => ?_
      refine r_callVv (As := [.int (0 : Int32), .int x3, .int (gA P3 650 th (3 : Int32).toNatClampNeg), .int (0 : Int32)]) (st := []) C (mc_X5_fills 8 hk h6) cv_X5_397 hk rfl (Nat.le_of_ble_eq_true rfl) (Nat.le_of_ble_eq_true rfl) rfl (Nat.le_of_ble_eq_true rfl) dX5_fill_111 ?_
      refine r_iload_n C dX5_fill_114 rfl rfl ?_
      refine r_ifge (tgt := 125) C dX5_fill_115 (by decide) (fun h7 => ?_) (fun h7 => ?_)
      · refine r_aload_n C dX5_fill_125 rfl rfl ?_
        refine r_getA C fl_X5_126 hk dX5_fill_126 ?_
        refine r_iload_n C dX5_fill_129 rfl rfl ?_
        refine r_iald C (rg_667 hk) rfl dX5_fill_130 fun h8 => ?_
        exact r_iret C dX5_fill_131 rfl
      · refine r_aload_n C dX5_fill_118 rfl rfl ?_
        refine r_getI (code := 668) C fl_X5_391 hk rfl dX5_fill_119 ?_
        refine r_goto (tgt := 131) C dX5_fill_122 (by decide) ?_
        exact r_iret C dX5_fill_131 rfl
    · refine r_iload_n C dX5_fill_66 rfl rfl ?_
      refine r_aload_n C dX5_fill_67 rfl rfl ?_
      refine r_getA C fl_X5_113 hk dX5_fill_68 ?_
      refine r_bipush (v := 20) C dX5_fill_71 rfl ?_
      refine r_iload C dX5_fill_73 rfl ?_
      refine r_iadd C dX5_fill_75 ?_
      refine r_iald C (rg_662 hk) rfl dX5_fill_76 fun h9 => ?_
      refine r_ifle (tgt := 87) C dX5_fill_77 (by decide) (fun h10 => ?_) (fun h10 => ?_)
      · refine r_iconst (v := 0) C dX5_fill_87 rfl ?_
        refine r_ior C dX5_fill_88 ?_
        refine r_ltI fun v11 => ?_
        refine r_istore_n (ls' := [some (.ref th), none, some (.int x2), some (.int v11), some (.int x4)]) C dX5_fill_89 rfl (Nat.le_of_ble_eq_true rfl) rfl rfl ?_
        refine r_iinc (v := 1) (ls' := [some (.ref th), none, some (.int x2), some (.int v11), some (.int (x4 + (1 : Int32)))]) C dX5_fill_90 rfl rfl (Nat.le_of_ble_eq_true rfl) rfl rfl ?_
        refine r_goto (tgt := 55) C dX5_fill_93 (by decide) ?_
        exact ih x2 v11 (x4 + (1 : Int32)) P
      · refine r_iconst (v := 1) C dX5_fill_80 rfl ?_
        refine r_iload C dX5_fill_81 rfl ?_
        refine r_ishl C dX5_fill_83 ?_
        refine r_goto (tgt := 88) C dX5_fill_84 (by decide) ?_
        refine r_ior C dX5_fill_88 ?_
        refine r_ltI fun v12 => ?_
        refine r_istore_n (ls' := [some (.ref th), none, some (.int x2), some (.int v12), some (.int x4)]) C dX5_fill_89 rfl (Nat.le_of_ble_eq_true rfl) rfl rfl ?_
        refine r_iinc (v := 1) (ls' := [some (.ref th), none, some (.int x2), some (.int v12), some (.int (x4 + (1 : Int32)))]) C dX5_fill_90 rfl rfl (Nat.le_of_ble_eq_true rfl) rfl rfl ?_
        refine r_goto (tgt := 55) C dX5_fill_93 (by decide) ?_
        exact ih x2 v12 (x4 + (1 : Int32)) P
def fX5_fill_b31 (th : Nat)  (x1 : Int32) (x2 : Int32) (P : mm_P) : Option (Int32 × mm_P) :=
  mm_bd (fX5_findHardest th x1 P) fun r1 =>
  mm_gd (mm_in (1 : Int32) 1242) <|
  mm_lt (sI r1 669 th ((mm_shl (1 : Int32) (gA r1 662 th (1 : Int32).toNatClampNeg)) - (1 : Int32))) fun P4 =>
  fX5_fill_b55 th mm_NF x2 (0 : Int32) (0 : Int32) P4
set_option maxHeartbeats 4000000 in
theorem wfX5_fill_b31 {E : mm_E} (C : mm_Cx E RX5 cX5_fill 5 (some .int) 11 277) {K : mm_K} {th : Nat} (hk : K.1 th = 5) {nx sl : Nat} (x1 : Int32) (x2 : Int32) (P : mm_P) : mm_V E (mm_wwI K nx sl) 31 [some (.ref th), some (.int x1), some (.int x2), none, none] [] K P nx sl (fX5_fill_b31 th x1 x2 P) := by
  unfold fX5_fill_b31
  refine r_aload_n C dX5_fill_31 rfl rfl ?_
  refine r_iload_n C dX5_fill_32 rfl rfl ?_
  refine r_bd fun r1 h2 => ?_
  refine r_callVv (As := [.int x1]) (st := []) C (mc_X5_findHardest hk h2) cv_X5_401 hk rfl (Nat.le_of_ble_eq_true rfl) (Nat.le_of_ble_eq_true rfl) rfl (Nat.le_of_ble_eq_true rfl) dX5_fill_33 ?_
  refine r_aload_n C dX5_fill_36 rfl rfl ?_
  refine r_iconst (v := 1) C dX5_fill_37 rfl ?_
  refine r_aload_n C dX5_fill_38 rfl rfl ?_
  refine r_getA C fl_X5_113 hk dX5_fill_39 ?_
  refine r_iconst (v := 1) C dX5_fill_42 rfl ?_
  refine r_iald C (rg_662 hk) rfl dX5_fill_43 fun h3 => ?_
  refine r_ishl C dX5_fill_44 ?_
  refine r_iconst (v := 1) C dX5_fill_45 rfl ?_
  refine r_isub C dX5_fill_46 ?_
  refine r_putI (code := 669) C fl_X5_394 hk rfl rfl dX5_fill_47 ?_
  refine r_ltP fun P4 => ?_
  refine r_iconst (v := 0) C dX5_fill_50 rfl ?_
  refine r_istore_n (ls' := [some (.ref th), some (.int x1), some (.int x2), some (.int (0 : Int32)), none]) C dX5_fill_51 rfl (Nat.le_of_ble_eq_true rfl) rfl rfl ?_
  refine r_iconst (v := 0) C dX5_fill_52 rfl ?_
  refine r_istore (ls' := [some (.ref th), some (.int x1), some (.int x2), some (.int (0 : Int32)), some (.int (0 : Int32))]) C dX5_fill_53 (Nat.le_of_ble_eq_true rfl) rfl rfl ?_
  refine r_mask [true, false, true, true, true] (ls' := [some (.ref th), none, some (.int x2), some (.int (0 : Int32)), some (.int (0 : Int32))]) rfl ?_
  exact wfX5_fill_b55 C hk mm_NF x2 (0 : Int32) (0 : Int32) P4
def fX5_fill (th : Nat) (x1 : Int32) (x2 : Int32) (P : mm_P) : Option (Int32 × mm_P) :=
  mm_lt (sI P 640 th (0 : Int32)) fun P1 =>
  mm_bd (fX5_within x1 (1 : Int32) (6 : Int32)) fun r2 =>
  if r2 = 0 then
  (some ((-2 : Int32), P1))
  else
  (if x2 = (-1 : Int32) then
  (fX5_fill_b31 th x1 x2 P1)
  else
  (mm_bd (fX5_isCloth th P1 x2) fun r6 =>
  if r6 ≠ 0 then
  (fX5_fill_b31 th x1 x2 P1)
  else
  (some ((-2 : Int32), P1))))
set_option maxHeartbeats 4000000 in
theorem mc_X5_fill {l : Launch} {K : mm_K} {P : mm_P} {th : Nat} {x1 : Int32} {x2 : Int32} {nx sl : Nat} {r : (Int32 × mm_P)} (hk : K.1 th = 5) (h : fX5_fill th x1 x2 P = some r) : mm_C l yX5_fill (ws_ yX5_fill cX5_fill 5 (some .int)) 11 277 [.ref th, .int x1, .int x2] K P nx sl (mm_wwI K nx sl r) :=
  mm_start (ls := [some (.ref th), some (.int x1), some (.int x2), none, none]) h (by decide) (Nat.le_of_ble_eq_true rfl) rfl (Nat.le_refl _) (Nat.le_refl _) rfl fun E hl9 _ _ _ C => by
  have C : mm_Cx E RX5 cX5_fill 5 (some .int) 11 277 := C
  unfold fX5_fill
  refine r_aload_n C dX5_fill_0 rfl rfl ?_
  refine r_iconst (v := 0) C dX5_fill_1 rfl ?_
  refine r_putI (code := 640) C fl_X5_1 hk rfl rfl dX5_fill_2 ?_
  refine r_ltP fun P1 => ?_
  refine r_iload_n C dX5_fill_5 rfl rfl ?_
  refine r_iconst (v := 1) C dX5_fill_6 rfl ?_
  refine r_bipush (v := 6) C dX5_fill_7 rfl ?_
  refine r_bd fun r2 h3 => ?_
  refine r_callS (As := [.int x1, .int (1 : Int32), .int (6 : Int32)]) (st := []) C (mc_X5_within h3) cv_X5_349  rfl (Nat.le_of_ble_eq_true rfl) (Nat.le_of_ble_eq_true rfl) rfl (Nat.le_of_ble_eq_true rfl) dX5_fill_9 ?_
  refine r_ifeq (tgt := 28) C dX5_fill_12 (by decide) (fun h4 => ?_) (fun h4 => ?_)
  · refine r_bipush (v := -2) C dX5_fill_28 rfl ?_
    exact r_iret C dX5_fill_30 rfl
  · refine r_iload_n C dX5_fill_15 rfl rfl ?_
    refine r_iconst (v := -1) C dX5_fill_16 rfl ?_
    refine r_icmpeq (tgt := 31) C dX5_fill_17 (by decide) (fun h5 => ?_) (fun h5 => ?_)
    · exact wfX5_fill_b31 C hk x1 x2 P1
    · refine r_aload_n C dX5_fill_20 rfl rfl ?_
      refine r_iload_n C dX5_fill_21 rfl rfl ?_
      refine r_bd fun r6 h7 => ?_
      refine r_callV (As := [.int x2]) (st := []) C (mc_X5_isCloth hk h7) cv_X5_346 hk rfl (Nat.le_of_ble_eq_true rfl) (Nat.le_of_ble_eq_true rfl) rfl (Nat.le_of_ble_eq_true rfl) dX5_fill_22 ?_
      refine r_ifne (tgt := 31) C dX5_fill_25 (by decide) (fun h8 => ?_) (fun h8 => ?_)
      · exact wfX5_fill_b31 C hk x1 x2 P1
      · refine r_bipush (v := -2) C dX5_fill_28 rfl ?_
        exact r_iret C dX5_fill_30 rfl
/-! hanging -/
def fX5_hanging_b274 (th : Nat) (kS : (Int32 → Int32 → Int32 → Int32 → Int32 → mm_P → Option (Int64 × mm_P))) (k15 : Int32 → Int32 → Int32 → Int32 → Int32 → Int64 → Int32 → mm_P → Option (Int64 × mm_P)) (x1 : Int32) (x2 : Int32) (x3 : Int32) (x4 : Int32) (x5 : Int32) (x6 : Int64) (x8 : Int32) (x9 : Int32) (x10 : Int32) (x13 : Int32) (s0 : Int32) (P : mm_P) : Option (Int64 × mm_P) :=
  if s0 = 0 then
  (mm_lt (x6 + (0 : Int64)) fun v2 =>
  k15 x1 x2 x3 x4 x5 v2 (x8 + (1 : Int32)) P)
  else
  (mm_bd (fX5_driedOf th x1 x3 x10 P) fun r3 =>
  mm_bd (kS x1 x13 r3.1 (x4 + (1 : Int32)) x5 r3.2) fun r5 =>
  mm_lt (x6 + (x9.toInt64 * r5.1)) fun v7 =>
  k15 x1 x2 x3 x4 x5 v7 (x8 + (1 : Int32)) r5.2)
set_option maxHeartbeats 4000000 in
theorem wfX5_hanging_b274 {E : mm_E} {FR LC FRS LCS : Nat} (hFR : FRS + 1 ≤ FR) (hFb : 3 ≤ FR) (hLC : LCS + 34 ≤ LC) (hLb : 70 ≤ LC) (C : mm_Cx E RX5 cX5_hanging 15 (some .long) FR LC) {K : mm_K} {th : Nat} (hk : K.1 th = 5) {nx sl : Nat} {kS : (Int32 → Int32 → Int32 → Int32 → Int32 → mm_P → Option (Int64 × mm_P))} (hkS : ∀ (z0 : Int32) (z1 : Int32) (z2 : Int32) (z3 : Int32) (z4 : Int32) (P : mm_P) (r : (Int64 × mm_P)), kS z0 z1 z2 z3 z4 P = some r → mm_C (eL E) yX5_hanging (ws_ yX5_hanging cX5_hanging 15 (some .long)) FRS LCS [.ref th, .int z0, .int z1, .int z2, .int z3, .int z4] K P nx sl (mm_wwL K nx sl r)) {k15 : Int32 → Int32 → Int32 → Int32 → Int32 → Int64 → Int32 → mm_P → Option (Int64 × mm_P)} (hk15 : ∀ (x1 : Int32) (x2 : Int32) (x3 : Int32) (x4 : Int32) (x5 : Int32) (x6 : Int64) (x8 : Int32) (P : mm_P), mm_V E (mm_wwL K nx sl) 15 [some (.ref th), some (.int x1), some (.int x2), some (.int x3), some (.int x4), some (.int x5), some (.long x6), none, some (.int x8), none, none, none, none, none, none] [] K P nx sl (k15 x1 x2 x3 x4 x5 x6 x8 P)) (x1 : Int32) (x2 : Int32) (x3 : Int32) (x4 : Int32) (x5 : Int32) (x6 : Int64) (x8 : Int32) (x9 : Int32) (x10 : Int32) (x13 : Int32) (s0 : Int32) (P : mm_P) : mm_V E (mm_wwL K nx sl) 274 [some (.ref th), some (.int x1), some (.int x2), some (.int x3), some (.int x4), some (.int x5), some (.long x6), none, some (.int x8), some (.int x9), some (.int x10), none, none, some (.int x13), none] [.int s0] K P nx sl (fX5_hanging_b274 th kS k15 x1 x2 x3 x4 x5 x6 x8 x9 x10 x13 s0 P) := by
  unfold fX5_hanging_b274
  refine r_istore (ls' := [some (.ref th), some (.int x1), some (.int x2), some (.int x3), some (.int x4), some (.int x5), some (.long x6), none, some (.int x8), some (.int x9), some (.int x10), none, none, some (.int x13), some (.int s0)]) C dX5_hanging_274 (Nat.le_of_ble_eq_true rfl) rfl rfl ?_
  refine r_lload C dX5_hanging_276 rfl ?_
  refine r_iload C dX5_hanging_278 rfl ?_
  refine r_ifeq (tgt := 311) C dX5_hanging_280 (by decide) (fun h1 => ?_) (fun h1 => ?_)
  · refine r_lconst (v := 0) C dX5_hanging_311 rfl ?_
    refine r_ladd C dX5_hanging_312 ?_
    refine r_ltL fun v2 => ?_
    refine r_lstore (ls' := [some (.ref th), some (.int x1), some (.int x2), some (.int x3), some (.int x4), some (.int x5), some (.long v2), none, some (.int x8), some (.int x9), some (.int x10), none, none, some (.int x13), some (.int s0)]) C dX5_hanging_313 (Nat.le_of_ble_eq_true rfl) rfl rfl ?_
    refine r_iinc (v := 1) (ls' := [some (.ref th), some (.int x1), some (.int x2), some (.int x3), some (.int x4), some (.int x5), some (.long v2), none, some (.int (x8 + (1 : Int32))), some (.int x9), some (.int x10), none, none, some (.int x13), some (.int s0)]) C dX5_hanging_315 rfl rfl (Nat.le_of_ble_eq_true rfl) rfl rfl ?_
    refine r_goto (tgt := 15) C dX5_hanging_318 (by decide) ?_
    refine r_mask [true, true, true, true, true, true, true, true, true, false, false, true, true, false, false] (ls' := [some (.ref th), some (.int x1), some (.int x2), some (.int x3), some (.int x4), some (.int x5), some (.long v2), none, some (.int (x8 + (1 : Int32))), none, none, none, none, none, none]) rfl ?_
    exact hk15 x1 x2 x3 x4 x5 v2 (x8 + (1 : Int32)) P
  · refine r_iload C dX5_hanging_283 rfl ?_
    refine r_i2l C dX5_hanging_285 ?_
    refine r_aload_n C dX5_hanging_286 rfl rfl ?_
    refine r_iload_n C dX5_hanging_287 rfl rfl ?_
    refine r_iload C dX5_hanging_288 rfl ?_
    refine r_aload_n C dX5_hanging_290 rfl rfl ?_
    refine r_iload_n C dX5_hanging_291 rfl rfl ?_
    refine r_iload_n C dX5_hanging_292 rfl rfl ?_
    refine r_iload C dX5_hanging_293 rfl ?_
    refine r_bd fun r3 h4 => ?_
    refine r_callV (As := [.int x1, .int x3, .int x10]) (st := [.int x13, .int x1, .ref th, .long x9.toInt64, .long x6]) C (mc_X5_driedOf hk h4) cv_X5_340 hk rfl (by omega) (by omega) rfl (Nat.le_of_ble_eq_true rfl) dX5_hanging_295 ?_
    refine r_iload C dX5_hanging_298 rfl ?_
    refine r_iconst (v := 1) C dX5_hanging_300 rfl ?_
    refine r_iadd C dX5_hanging_301 ?_
    refine r_iload C dX5_hanging_302 rfl ?_
    refine r_bd fun r5 h6 => ?_
    refine r_callV (As := [.int x1, .int x13, .int r3.1, .int (x4 + (1 : Int32)), .int x5]) (st := [.long x9.toInt64, .long x6]) C (hkS _ _ _ _ _ _ _ h6) cv_X5_404 hk rfl (by omega) (by omega) rfl (Nat.le_of_ble_eq_true rfl) dX5_hanging_304 ?_
    refine r_lmul C dX5_hanging_307 ?_
    refine r_goto (tgt := 312) C dX5_hanging_308 (by decide) ?_
    refine r_ladd C dX5_hanging_312 ?_
    refine r_ltL fun v7 => ?_
    refine r_lstore (ls' := [some (.ref th), some (.int x1), some (.int x2), some (.int x3), some (.int x4), some (.int x5), some (.long v7), none, some (.int x8), some (.int x9), some (.int x10), none, none, some (.int x13), some (.int s0)]) C dX5_hanging_313 (Nat.le_of_ble_eq_true rfl) rfl rfl ?_
    refine r_iinc (v := 1) (ls' := [some (.ref th), some (.int x1), some (.int x2), some (.int x3), some (.int x4), some (.int x5), some (.long v7), none, some (.int (x8 + (1 : Int32))), some (.int x9), some (.int x10), none, none, some (.int x13), some (.int s0)]) C dX5_hanging_315 rfl rfl (Nat.le_of_ble_eq_true rfl) rfl rfl ?_
    refine r_goto (tgt := 15) C dX5_hanging_318 (by decide) ?_
    refine r_mask [true, true, true, true, true, true, true, true, true, false, false, true, true, false, false] (ls' := [some (.ref th), some (.int x1), some (.int x2), some (.int x3), some (.int x4), some (.int x5), some (.long v7), none, some (.int (x8 + (1 : Int32))), none, none, none, none, none, none]) rfl ?_
    exact hk15 x1 x2 x3 x4 x5 v7 (x8 + (1 : Int32)) r5.2
def fX5_hanging_b273 (th : Nat) (kS : (Int32 → Int32 → Int32 → Int32 → Int32 → mm_P → Option (Int64 × mm_P))) (k15 : Int32 → Int32 → Int32 → Int32 → Int32 → Int64 → Int32 → mm_P → Option (Int64 × mm_P)) (x1 : Int32) (x2 : Int32) (x3 : Int32) (x4 : Int32) (x5 : Int32) (x6 : Int64) (x8 : Int32) (x9 : Int32) (x10 : Int32) (x13 : Int32) (P : mm_P) : Option (Int64 × mm_P) :=
  fX5_hanging_b274 th kS k15 x1 x2 x3 x4 x5 x6 x8 x9 x10 x13 (0 : Int32) P
set_option maxHeartbeats 4000000 in
theorem wfX5_hanging_b273 {E : mm_E} {FR LC FRS LCS : Nat} (hFR : FRS + 1 ≤ FR) (hFb : 3 ≤ FR) (hLC : LCS + 34 ≤ LC) (hLb : 70 ≤ LC) (C : mm_Cx E RX5 cX5_hanging 15 (some .long) FR LC) {K : mm_K} {th : Nat} (hk : K.1 th = 5) {nx sl : Nat} {kS : (Int32 → Int32 → Int32 → Int32 → Int32 → mm_P → Option (Int64 × mm_P))} (hkS : ∀ (z0 : Int32) (z1 : Int32) (z2 : Int32) (z3 : Int32) (z4 : Int32) (P : mm_P) (r : (Int64 × mm_P)), kS z0 z1 z2 z3 z4 P = some r → mm_C (eL E) yX5_hanging (ws_ yX5_hanging cX5_hanging 15 (some .long)) FRS LCS [.ref th, .int z0, .int z1, .int z2, .int z3, .int z4] K P nx sl (mm_wwL K nx sl r)) {k15 : Int32 → Int32 → Int32 → Int32 → Int32 → Int64 → Int32 → mm_P → Option (Int64 × mm_P)} (hk15 : ∀ (x1 : Int32) (x2 : Int32) (x3 : Int32) (x4 : Int32) (x5 : Int32) (x6 : Int64) (x8 : Int32) (P : mm_P), mm_V E (mm_wwL K nx sl) 15 [some (.ref th), some (.int x1), some (.int x2), some (.int x3), some (.int x4), some (.int x5), some (.long x6), none, some (.int x8), none, none, none, none, none, none] [] K P nx sl (k15 x1 x2 x3 x4 x5 x6 x8 P)) (x1 : Int32) (x2 : Int32) (x3 : Int32) (x4 : Int32) (x5 : Int32) (x6 : Int64) (x8 : Int32) (x9 : Int32) (x10 : Int32) (x13 : Int32) (P : mm_P) : mm_V E (mm_wwL K nx sl) 273 [some (.ref th), some (.int x1), some (.int x2), some (.int x3), some (.int x4), some (.int x5), some (.long x6), none, some (.int x8), some (.int x9), some (.int x10), none, none, some (.int x13), none] [] K P nx sl (fX5_hanging_b273 th kS k15 x1 x2 x3 x4 x5 x6 x8 x9 x10 x13 P) := by
  unfold fX5_hanging_b273
  refine r_iconst (v := 0) C dX5_hanging_273 rfl ?_
  exact wfX5_hanging_b274 hFR hFb hLC hLb C hk hkS hk15 x1 x2 x3 x4 x5 x6 x8 x9 x10 x13 (0 : Int32) P
def fX5_hanging_b252 (th : Nat) (kS : (Int32 → Int32 → Int32 → Int32 → Int32 → mm_P → Option (Int64 × mm_P))) (k15 : Int32 → Int32 → Int32 → Int32 → Int32 → Int64 → Int32 → mm_P → Option (Int64 × mm_P)) (x1 : Int32) (x2 : Int32) (x3 : Int32) (x4 : Int32) (x5 : Int32) (x6 : Int64) (x8 : Int32) (x9 : Int32) (x10 : Int32) (x11 : Int32) (x12 : Int32) (x13 : Int32) (P : mm_P) : Option (Int64 × mm_P) :=
  if x9 ≤ 0 then
  (fX5_hanging_b273 th kS k15 x1 x2 x3 x4 x5 x6 x8 x9 x10 x13 P)
  else
  (if x11 < x12 then
  (fX5_hanging_b273 th kS k15 x1 x2 x3 x4 x5 x6 x8 x9 x10 x13 P)
  else
  (if x13 = 0 then
  (fX5_hanging_b273 th kS k15 x1 x2 x3 x4 x5 x6 x8 x9 x10 x13 P)
  else
  (fX5_hanging_b274 th kS k15 x1 x2 x3 x4 x5 x6 x8 x9 x10 x13 (1 : Int32) P)))
set_option maxHeartbeats 4000000 in
theorem wfX5_hanging_b252 {E : mm_E} {FR LC FRS LCS : Nat} (hFR : FRS + 1 ≤ FR) (hFb : 3 ≤ FR) (hLC : LCS + 34 ≤ LC) (hLb : 70 ≤ LC) (C : mm_Cx E RX5 cX5_hanging 15 (some .long) FR LC) {K : mm_K} {th : Nat} (hk : K.1 th = 5) {nx sl : Nat} {kS : (Int32 → Int32 → Int32 → Int32 → Int32 → mm_P → Option (Int64 × mm_P))} (hkS : ∀ (z0 : Int32) (z1 : Int32) (z2 : Int32) (z3 : Int32) (z4 : Int32) (P : mm_P) (r : (Int64 × mm_P)), kS z0 z1 z2 z3 z4 P = some r → mm_C (eL E) yX5_hanging (ws_ yX5_hanging cX5_hanging 15 (some .long)) FRS LCS [.ref th, .int z0, .int z1, .int z2, .int z3, .int z4] K P nx sl (mm_wwL K nx sl r)) {k15 : Int32 → Int32 → Int32 → Int32 → Int32 → Int64 → Int32 → mm_P → Option (Int64 × mm_P)} (hk15 : ∀ (x1 : Int32) (x2 : Int32) (x3 : Int32) (x4 : Int32) (x5 : Int32) (x6 : Int64) (x8 : Int32) (P : mm_P), mm_V E (mm_wwL K nx sl) 15 [some (.ref th), some (.int x1), some (.int x2), some (.int x3), some (.int x4), some (.int x5), some (.long x6), none, some (.int x8), none, none, none, none, none, none] [] K P nx sl (k15 x1 x2 x3 x4 x5 x6 x8 P)) (x1 : Int32) (x2 : Int32) (x3 : Int32) (x4 : Int32) (x5 : Int32) (x6 : Int64) (x8 : Int32) (x9 : Int32) (x10 : Int32) (x11 : Int32) (x12 : Int32) (x13 : Int32) (P : mm_P) : mm_V E (mm_wwL K nx sl) 252 [some (.ref th), some (.int x1), some (.int x2), some (.int x3), some (.int x4), some (.int x5), some (.long x6), none, some (.int x8), some (.int x9), some (.int x10), some (.int x11), some (.int x12), some (.int x13), none] [] K P nx sl (fX5_hanging_b252 th kS k15 x1 x2 x3 x4 x5 x6 x8 x9 x10 x11 x12 x13 P) := by
  unfold fX5_hanging_b252
  refine r_iload C dX5_hanging_252 rfl ?_
  refine r_ifle (tgt := 273) C dX5_hanging_254 (by decide) (fun h1 => ?_) (fun h1 => ?_)
  · refine r_mask [true, true, true, true, true, true, true, true, true, true, true, false, false, true, true] (ls' := [some (.ref th), some (.int x1), some (.int x2), some (.int x3), some (.int x4), some (.int x5), some (.long x6), none, some (.int x8), some (.int x9), some (.int x10), none, none, some (.int x13), none]) rfl ?_
    exact wfX5_hanging_b273 hFR hFb hLC hLb C hk hkS hk15 x1 x2 x3 x4 x5 x6 x8 x9 x10 x13 P
  · refine r_iload C dX5_hanging_257 rfl ?_
    refine r_iload C dX5_hanging_259 rfl ?_
    refine r_icmpgt (tgt := 273) C dX5_hanging_261 (by decide) (fun h2 => ?_) (fun h2 => ?_)
    · refine r_mask [true, true, true, true, true, true, true, true, true, true, true, false, false, true, true] (ls' := [some (.ref th), some (.int x1), some (.int x2), some (.int x3), some (.int x4), some (.int x5), some (.long x6), none, some (.int x8), some (.int x9), some (.int x10), none, none, some (.int x13), none]) rfl ?_
      exact wfX5_hanging_b273 hFR hFb hLC hLb C hk hkS hk15 x1 x2 x3 x4 x5 x6 x8 x9 x10 x13 P
    · refine r_iload C dX5_hanging_264 rfl ?_
      refine r_ifeq (tgt := 273) C dX5_hanging_266 (by decide) (fun h3 => ?_) (fun h3 => ?_)
      · refine r_mask [true, true, true, true, true, true, true, true, true, true, true, false, false, true, true] (ls' := [some (.ref th), some (.int x1), some (.int x2), some (.int x3), some (.int x4), some (.int x5), some (.long x6), none, some (.int x8), some (.int x9), some (.int x10), none, none, some (.int x13), none]) rfl ?_
        exact wfX5_hanging_b273 hFR hFb hLC hLb C hk hkS hk15 x1 x2 x3 x4 x5 x6 x8 x9 x10 x13 P
      · refine r_iconst (v := 1) C dX5_hanging_269 rfl ?_
        refine r_goto (tgt := 274) C dX5_hanging_270 (by decide) ?_
        refine r_mask [true, true, true, true, true, true, true, true, true, true, true, false, false, true, true] (ls' := [some (.ref th), some (.int x1), some (.int x2), some (.int x3), some (.int x4), some (.int x5), some (.long x6), none, some (.int x8), some (.int x9), some (.int x10), none, none, some (.int x13), none]) rfl ?_
        exact wfX5_hanging_b274 hFR hFb hLC hLb C hk hkS hk15 x1 x2 x3 x4 x5 x6 x8 x9 x10 x13 (1 : Int32) P
def fX5_hanging_b168 (th : Nat) (kS : (Int32 → Int32 → Int32 → Int32 → Int32 → mm_P → Option (Int64 × mm_P))) (k15 : Int32 → Int32 → Int32 → Int32 → Int32 → Int64 → Int32 → mm_P → Option (Int64 × mm_P)) : Nat → Int32 → Int32 → Int32 → Int32 → Int32 → Int64 → Int32 → Int32 → Int32 → Int32 → Int32 → Int32 → Int32 → mm_P → Option (Int64 × mm_P)
  | 0, _, _, _, _, _, _, _, _, _, _, _, _, _, _ => none
  | n + 1, x1, x2, x3, x4, x5, x6, x8, x9, x10, x11, x12, x13, x14, P =>
  if (8 : Int32) ≤ x14 then
  (fX5_hanging_b252 th kS k15 x1 x2 x3 x4 x5 x6 x8 x9 x10 x11 x12 x13 P)
  else
  (if ((2 : Int32) * x12) ≤ x11 then
  (fX5_hanging_b252 th kS k15 x1 x2 x3 x4 x5 x6 x8 x9 x10 x11 x12 x13 P)
  else
  (if ((mm_shr x2 x14) &&& (1 : Int32)) ≠ (1 : Int32) then
  (fX5_hanging_b168 th kS k15 n x1 x2 x3 x4 x5 x6 x8 x9 x10 x11 x12 x13 (x14 + (1 : Int32)) P)
  else
  (mm_lt (((8 : Int32) * (x4 + (1 : Int32))) + x14) fun v4 =>
  mm_gd (mm_in v4 72) <|
  mm_gd (mm_in v4 72) <|
  mm_lt (sA P 670 th v4.toNatClampNeg ((gA P 670 th v4.toNatClampNeg) - (1 : Int32))) fun P7 =>
  mm_gd (mm_in (((8 : Int32) * (x4 + (1 : Int32))) + x14) 72) <|
  if (gA P7 670 th (((8 : Int32) * (x4 + (1 : Int32))) + x14).toNatClampNeg) ≠ 0 then
  (mm_lt (x13 &&& (-1 : Int32)) fun v10 =>
  fX5_hanging_b168 th kS k15 n x1 x2 x3 x4 x5 x6 x8 x9 x10 x11 x12 v10 (x14 + (1 : Int32)) P7)
  else
  (mm_lt (x13 &&& ((mm_shl (1 : Int32) x14) ^^^ (-1 : Int32))) fun v11 =>
  fX5_hanging_b168 th kS k15 n x1 x2 x3 x4 x5 x6 x8 x9 x10 x11 x12 v11 (x14 + (1 : Int32)) P7))))
set_option maxHeartbeats 4000000 in
theorem wfX5_hanging_b168 {E : mm_E} {FR LC FRS LCS : Nat} (hFR : FRS + 1 ≤ FR) (hFb : 3 ≤ FR) (hLC : LCS + 34 ≤ LC) (hLb : 70 ≤ LC) (C : mm_Cx E RX5 cX5_hanging 15 (some .long) FR LC) {K : mm_K} {th : Nat} (hk : K.1 th = 5) {nx sl : Nat} {kS : (Int32 → Int32 → Int32 → Int32 → Int32 → mm_P → Option (Int64 × mm_P))} (hkS : ∀ (z0 : Int32) (z1 : Int32) (z2 : Int32) (z3 : Int32) (z4 : Int32) (P : mm_P) (r : (Int64 × mm_P)), kS z0 z1 z2 z3 z4 P = some r → mm_C (eL E) yX5_hanging (ws_ yX5_hanging cX5_hanging 15 (some .long)) FRS LCS [.ref th, .int z0, .int z1, .int z2, .int z3, .int z4] K P nx sl (mm_wwL K nx sl r)) {k15 : Int32 → Int32 → Int32 → Int32 → Int32 → Int64 → Int32 → mm_P → Option (Int64 × mm_P)} (hk15 : ∀ (x1 : Int32) (x2 : Int32) (x3 : Int32) (x4 : Int32) (x5 : Int32) (x6 : Int64) (x8 : Int32) (P : mm_P), mm_V E (mm_wwL K nx sl) 15 [some (.ref th), some (.int x1), some (.int x2), some (.int x3), some (.int x4), some (.int x5), some (.long x6), none, some (.int x8), none, none, none, none, none, none] [] K P nx sl (k15 x1 x2 x3 x4 x5 x6 x8 P)) : ∀ (n : Nat), ∀ (x1 : Int32) (x2 : Int32) (x3 : Int32) (x4 : Int32) (x5 : Int32) (x6 : Int64) (x8 : Int32) (x9 : Int32) (x10 : Int32) (x11 : Int32) (x12 : Int32) (x13 : Int32) (x14 : Int32) (P : mm_P), mm_V E (mm_wwL K nx sl) 168 [some (.ref th), some (.int x1), some (.int x2), some (.int x3), some (.int x4), some (.int x5), some (.long x6), none, some (.int x8), some (.int x9), some (.int x10), some (.int x11), some (.int x12), some (.int x13), some (.int x14)] [] K P nx sl (fX5_hanging_b168 th kS k15 n x1 x2 x3 x4 x5 x6 x8 x9 x10 x11 x12 x13 x14 P) := by
  intro n
  induction n with
  | zero => intro x1 x2 x3 x4 x5 x6 x8 x9 x10 x11 x12 x13 x14 P; exact r_none
  | succ n ih =>
    intro x1 x2 x3 x4 x5 x6 x8 x9 x10 x11 x12 x13 x14 P
    rw [fX5_hanging_b168]
    refine r_iload C dX5_hanging_168 rfl ?_
    refine r_bipush (v := 8) C dX5_hanging_170 rfl ?_
    refine r_icmpge (tgt := 252) C dX5_hanging_172 (by decide) (fun h1 => ?_) (fun h1 => ?_)
    · refine r_mask [true, true, true, true, true, true, true, true, true, true, true, true, true, true, false] (ls' := [some (.ref th), some (.int x1), some (.int x2), some (.int x3), some (.int x4), some (.int x5), some (.long x6), none, some (.int x8), some (.int x9), some (.int x10), some (.int x11), some (.int x12), some (.int x13), none]) rfl ?_
      exact wfX5_hanging_b252 hFR hFb hLC hLb C hk hkS hk15 x1 x2 x3 x4 x5 x6 x8 x9 x10 x11 x12 x13 P
    · refine r_iconst (v := 2) C dX5_hanging_175 rfl ?_
      refine r_iload C dX5_hanging_176 rfl ?_
      refine r_imul C dX5_hanging_178 ?_
      refine r_iload C dX5_hanging_179 rfl ?_
      refine r_icmple (tgt := 252) C dX5_hanging_181 (by decide) (fun h2 => ?_) (fun h2 => ?_)
      · refine r_mask [true, true, true, true, true, true, true, true, true, true, true, true, true, true, false] (ls' := [some (.ref th), some (.int x1), some (.int x2), some (.int x3), some (.int x4), some (.int x5), some (.long x6), none, some (.int x8), some (.int x9), some (.int x10), some (.int x11), some (.int x12), some (.int x13), none]) rfl ?_
        exact wfX5_hanging_b252 hFR hFb hLC hLb C hk hkS hk15 x1 x2 x3 x4 x5 x6 x8 x9 x10 x11 x12 x13 P
      · refine r_iload_n C dX5_hanging_184 rfl rfl ?_
        refine r_iload C dX5_hanging_185 rfl ?_
        refine r_ishr C dX5_hanging_187 ?_
        refine r_iconst (v := 1) C dX5_hanging_188 rfl ?_
        refine r_iand C dX5_hanging_189 ?_
        refine r_iconst (v := 1) C dX5_hanging_190 rfl ?_
        refine r_icmpne (tgt := 246) C dX5_hanging_191 (by decide) (fun h3 => ?_) (fun h3 => ?_)
        · refine r_iinc (v := 1) (ls' := [some (.ref th), some (.int x1), some (.int x2), some (.int x3), some (.int x4), some (.int x5), some (.long x6), none, some (.int x8), some (.int x9), some (.int x10), some (.int x11), some (.int x12), some (.int x13), some (.int (x14 + (1 : Int32)))]) C dX5_hanging_246 rfl rfl (Nat.le_of_ble_eq_true rfl) rfl rfl ?_
          refine r_goto (tgt := 168) C dX5_hanging_249 (by decide) ?_
          exact ih x1 x2 x3 x4 x5 x6 x8 x9 x10 x11 x12 x13 (x14 + (1 : Int32)) P
        · refine r_aload_n C dX5_hanging_194 rfl rfl ?_
          refine r_getA C fl_X5_129 hk dX5_hanging_195 ?_
          refine r_bipush (v := 8) C dX5_hanging_198 rfl ?_
          refine r_iload C dX5_hanging_200 rfl ?_
          refine r_iconst (v := 1) C dX5_hanging_202 rfl ?_
          refine r_iadd C dX5_hanging_203 ?_
          refine r_imul C dX5_hanging_204 ?_
          refine r_iload C dX5_hanging_205 rfl ?_
          refine r_iadd C dX5_hanging_207 ?_
          refine r_ltI fun v4 => ?_
          refine r_dup2_11 C dX5_hanging_208 rfl rfl ?_
          refine r_iald C (rg_670 hk) rfl dX5_hanging_209 fun h5 => ?_
          refine r_iconst (v := 1) C dX5_hanging_210 rfl ?_
          refine r_isub C dX5_hanging_211 ?_
          refine r_iast C (rg_670 hk) (mm_ro_of (k := 5) hk rfl) rfl dX5_hanging_212 fun h6 => ?_
          refine r_ltP fun P7 => ?_
          refine r_iload C dX5_hanging_213 rfl ?_
          refine r_aload_n C dX5_hanging_215 rfl rfl ?_
          refine r_getA C fl_X5_129 hk dX5_hanging_216 ?_
          refine r_bipush (v := 8) C dX5_hanging_219 rfl ?_
          refine r_iload C dX5_hanging_221 rfl ?_
          refine r_iconst (v := 1) C dX5_hanging_223 rfl ?_
          refine r_iadd C dX5_hanging_224 ?_
          refine r_imul C dX5_hanging_225 ?_
          refine r_iload C dX5_hanging_226 rfl ?_
          refine r_iadd C dX5_hanging_228 ?_
          refine r_iald C (rg_670 hk) rfl dX5_hanging_229 fun h8 => ?_
          refine r_ifne (tgt := 242) C dX5_hanging_230 (by decide) (fun h9 => ?_) (fun h9 => ?_)
          · refine r_iconst (v := -1) C dX5_hanging_242 rfl ?_
            refine r_iand C dX5_hanging_243 ?_
            refine r_ltI fun v10 => ?_
            refine r_istore (ls' := [some (.ref th), some (.int x1), some (.int x2), some (.int x3), some (.int x4), some (.int x5), some (.long x6), none, some (.int x8), some (.int x9), some (.int x10), some (.int x11), some (.int x12), some (.int v10), some (.int x14)]) C dX5_hanging_244 (Nat.le_of_ble_eq_true rfl) rfl rfl ?_
            refine r_iinc (v := 1) (ls' := [some (.ref th), some (.int x1), some (.int x2), some (.int x3), some (.int x4), some (.int x5), some (.long x6), none, some (.int x8), some (.int x9), some (.int x10), some (.int x11), some (.int x12), some (.int v10), some (.int (x14 + (1 : Int32)))]) C dX5_hanging_246 rfl rfl (Nat.le_of_ble_eq_true rfl) rfl rfl ?_
            refine r_goto (tgt := 168) C dX5_hanging_249 (by decide) ?_
            exact ih x1 x2 x3 x4 x5 x6 x8 x9 x10 x11 x12 v10 (x14 + (1 : Int32)) P7
          · refine r_iconst (v := 1) C dX5_hanging_233 rfl ?_
            refine r_iload C dX5_hanging_234 rfl ?_
            refine r_ishl C dX5_hanging_236 ?_
            refine r_iconst (v := -1) C dX5_hanging_237 rfl ?_
            refine r_ixor C dX5_hanging_238 ?_
            refine r_goto (tgt := 243) C dX5_hanging_239 (by decide) ?_
            refine r_iand C dX5_hanging_243 ?_
            refine r_ltI fun v11 => ?_
            refine r_istore (ls' := [some (.ref th), some (.int x1), some (.int x2), some (.int x3), some (.int x4), some (.int x5), some (.long x6), none, some (.int x8), some (.int x9), some (.int x10), some (.int x11), some (.int x12), some (.int v11), some (.int x14)]) C dX5_hanging_244 (Nat.le_of_ble_eq_true rfl) rfl rfl ?_
            refine r_iinc (v := 1) (ls' := [some (.ref th), some (.int x1), some (.int x2), some (.int x3), some (.int x4), some (.int x5), some (.long x6), none, some (.int x8), some (.int x9), some (.int x10), some (.int x11), some (.int x12), some (.int v11), some (.int (x14 + (1 : Int32)))]) C dX5_hanging_246 rfl rfl (Nat.le_of_ble_eq_true rfl) rfl rfl ?_
            refine r_goto (tgt := 168) C dX5_hanging_249 (by decide) ?_
            exact ih x1 x2 x3 x4 x5 x6 x8 x9 x10 x11 x12 v11 (x14 + (1 : Int32)) P7
def fX5_hanging_b79 (th : Nat) (kS : (Int32 → Int32 → Int32 → Int32 → Int32 → mm_P → Option (Int64 × mm_P))) (k15 : Int32 → Int32 → Int32 → Int32 → Int32 → Int64 → Int32 → mm_P → Option (Int64 × mm_P)) : Nat → Int32 → Int32 → Int32 → Int32 → Int32 → Int64 → Int32 → Int32 → Int32 → Int32 → Int32 → mm_P → Option (Int64 × mm_P)
  | 0, _, _, _, _, _, _, _, _, _, _, _, _ => none
  | n + 1, x1, x2, x3, x4, x5, x6, x8, x9, x10, x11, x12, P =>
  if (8 : Int32) ≤ x12 then
  (mm_bd (fX5_pullOf th x1 x3 x10 P) fun r2 =>
  fX5_hanging_b168 th kS k15 mm_NF x1 x2 x3 x4 x5 x6 x8 x9 x10 x11 r2.1 x2 (0 : Int32) r2.2)
  else
  (mm_gd (mm_in (((8 : Int32) * x4) + x12) 72) <|
  mm_gd (mm_in (((8 : Int32) * (x4 + (1 : Int32))) + x12) 72) <|
  mm_lt (sA P 670 th (((8 : Int32) * (x4 + (1 : Int32))) + x12).toNatClampNeg (gA P 670 th (((8 : Int32) * x4) + x12).toNatClampNeg)) fun P6 =>
  if ((mm_shr x2 x12) &&& (1 : Int32)) ≠ (1 : Int32) then
  (mm_lt (x11 + (0 : Int32)) fun v8 =>
  fX5_hanging_b79 th kS k15 n x1 x2 x3 x4 x5 x6 x8 x9 x10 v8 (x12 + (1 : Int32)) P6)
  else
  (mm_gd (mm_in (((8 : Int32) * x4) + x12) 72) <|
  mm_lt (x11 + (gA P6 670 th (((8 : Int32) * x4) + x12).toNatClampNeg)) fun v10 =>
  fX5_hanging_b79 th kS k15 n x1 x2 x3 x4 x5 x6 x8 x9 x10 v10 (x12 + (1 : Int32)) P6))
set_option maxHeartbeats 4000000 in
theorem wfX5_hanging_b79 {E : mm_E} {FR LC FRS LCS : Nat} (hFR : FRS + 1 ≤ FR) (hFb : 3 ≤ FR) (hLC : LCS + 34 ≤ LC) (hLb : 70 ≤ LC) (C : mm_Cx E RX5 cX5_hanging 15 (some .long) FR LC) {K : mm_K} {th : Nat} (hk : K.1 th = 5) {nx sl : Nat} {kS : (Int32 → Int32 → Int32 → Int32 → Int32 → mm_P → Option (Int64 × mm_P))} (hkS : ∀ (z0 : Int32) (z1 : Int32) (z2 : Int32) (z3 : Int32) (z4 : Int32) (P : mm_P) (r : (Int64 × mm_P)), kS z0 z1 z2 z3 z4 P = some r → mm_C (eL E) yX5_hanging (ws_ yX5_hanging cX5_hanging 15 (some .long)) FRS LCS [.ref th, .int z0, .int z1, .int z2, .int z3, .int z4] K P nx sl (mm_wwL K nx sl r)) {k15 : Int32 → Int32 → Int32 → Int32 → Int32 → Int64 → Int32 → mm_P → Option (Int64 × mm_P)} (hk15 : ∀ (x1 : Int32) (x2 : Int32) (x3 : Int32) (x4 : Int32) (x5 : Int32) (x6 : Int64) (x8 : Int32) (P : mm_P), mm_V E (mm_wwL K nx sl) 15 [some (.ref th), some (.int x1), some (.int x2), some (.int x3), some (.int x4), some (.int x5), some (.long x6), none, some (.int x8), none, none, none, none, none, none] [] K P nx sl (k15 x1 x2 x3 x4 x5 x6 x8 P)) : ∀ (n : Nat), ∀ (x1 : Int32) (x2 : Int32) (x3 : Int32) (x4 : Int32) (x5 : Int32) (x6 : Int64) (x8 : Int32) (x9 : Int32) (x10 : Int32) (x11 : Int32) (x12 : Int32) (P : mm_P), mm_V E (mm_wwL K nx sl) 79 [some (.ref th), some (.int x1), some (.int x2), some (.int x3), some (.int x4), some (.int x5), some (.long x6), none, some (.int x8), some (.int x9), some (.int x10), some (.int x11), some (.int x12), none, none] [] K P nx sl (fX5_hanging_b79 th kS k15 n x1 x2 x3 x4 x5 x6 x8 x9 x10 x11 x12 P) := by
  intro n
  induction n with
  | zero => intro x1 x2 x3 x4 x5 x6 x8 x9 x10 x11 x12 P; exact r_none
  | succ n ih =>
    intro x1 x2 x3 x4 x5 x6 x8 x9 x10 x11 x12 P
    rw [fX5_hanging_b79]
    refine r_iload C dX5_hanging_79 rfl ?_
    refine r_bipush (v := 8) C dX5_hanging_81 rfl ?_
    refine r_icmpge (tgt := 152) C dX5_hanging_83 (by decide) (fun h1 => ?_) (fun h1 => ?_)
    · refine r_aload_n C dX5_hanging_152 rfl rfl ?_
      refine r_iload_n C dX5_hanging_153 rfl rfl ?_
      refine r_iload_n C dX5_hanging_154 rfl rfl ?_
      refine r_iload C dX5_hanging_155 rfl ?_
      refine r_bd fun r2 h3 => ?_
      refine r_callV (As := [.int x1, .int x3, .int x10]) (st := []) C (mc_X5_pullOf hk h3) cv_X5_317 hk rfl (by omega) (by omega) rfl (Nat.le_of_ble_eq_true rfl) dX5_hanging_157 ?_
      refine r_istore (ls' := [some (.ref th), some (.int x1), some (.int x2), some (.int x3), some (.int x4), some (.int x5), some (.long x6), none, some (.int x8), some (.int x9), some (.int x10), some (.int x11), some (.int r2.1), none, none]) C dX5_hanging_160 (Nat.le_of_ble_eq_true rfl) rfl rfl ?_
      refine r_iload_n C dX5_hanging_162 rfl rfl ?_
      refine r_istore (ls' := [some (.ref th), some (.int x1), some (.int x2), some (.int x3), some (.int x4), some (.int x5), some (.long x6), none, some (.int x8), some (.int x9), some (.int x10), some (.int x11), some (.int r2.1), some (.int x2), none]) C dX5_hanging_163 (Nat.le_of_ble_eq_true rfl) rfl rfl ?_
      refine r_iconst (v := 0) C dX5_hanging_165 rfl ?_
      refine r_istore (ls' := [some (.ref th), some (.int x1), some (.int x2), some (.int x3), some (.int x4), some (.int x5), some (.long x6), none, some (.int x8), some (.int x9), some (.int x10), some (.int x11), some (.int r2.1), some (.int x2), some (.int (0 : Int32))]) C dX5_hanging_166 (Nat.le_of_ble_eq_true rfl) rfl rfl ?_
      exact wfX5_hanging_b168 hFR hFb hLC hLb C hk hkS hk15 mm_NF x1 x2 x3 x4 x5 x6 x8 x9 x10 x11 r2.1 x2 (0 : Int32) r2.2
    · refine r_aload_n C dX5_hanging_86 rfl rfl ?_
      refine r_getA C fl_X5_129 hk dX5_hanging_87 ?_
      refine r_bipush (v := 8) C dX5_hanging_90 rfl ?_
      refine r_iload C dX5_hanging_92 rfl ?_
      refine r_iconst (v := 1) C dX5_hanging_94 rfl ?_
      refine r_iadd C dX5_hanging_95 ?_
      refine r_imul C dX5_hanging_96 ?_
      refine r_iload C dX5_hanging_97 rfl ?_
      refine r_iadd C dX5_hanging_99 ?_
      refine r_aload_n C dX5_hanging_100 rfl rfl ?_
      refine r_getA C fl_X5_129 hk dX5_hanging_101 ?_
      refine r_bipush (v := 8) C dX5_hanging_104 rfl ?_
      refine r_iload C dX5_hanging_106 rfl ?_
      refine r_imul C dX5_hanging_108 ?_
      refine r_iload C dX5_hanging_109 rfl ?_
      refine r_iadd C dX5_hanging_111 ?_
      refine r_iald C (rg_670 hk) rfl dX5_hanging_112 fun h4 => ?_
      refine r_iast C (rg_670 hk) (mm_ro_of (k := 5) hk rfl) rfl dX5_hanging_113 fun h5 => ?_
      refine r_ltP fun P6 => ?_
      refine r_iload C dX5_hanging_114 rfl ?_
      refine r_iload_n C dX5_hanging_116 rfl rfl ?_
      refine r_iload C dX5_hanging_117 rfl ?_
      refine r_ishr C dX5_hanging_119 ?_
      refine r_iconst (v := 1) C dX5_hanging_120 rfl ?_
      refine r_iand C dX5_hanging_121 ?_
      refine r_iconst (v := 1) C dX5_hanging_122 rfl ?_
      refine r_icmpne (tgt := 142) C dX5_hanging_123 (by decide) (fun h7 => ?_) (fun h7 => ?_)
      · refine r_iconst (v := 0) C dX5_hanging_142 rfl ?_
        refine r_iadd C dX5_hanging_143 ?_
        refine r_ltI fun v8 => ?_
        refine r_istore (ls' := [some (.ref th), some (.int x1), some (.int x2), some (.int x3), some (.int x4), some (.int x5), some (.long x6), none, some (.int x8), some (.int x9), some (.int x10), some (.int v8), some (.int x12), none, none]) C dX5_hanging_144 (Nat.le_of_ble_eq_true rfl) rfl rfl ?_
        refine r_iinc (v := 1) (ls' := [some (.ref th), some (.int x1), some (.int x2), some (.int x3), some (.int x4), some (.int x5), some (.long x6), none, some (.int x8), some (.int x9), some (.int x10), some (.int v8), some (.int (x12 + (1 : Int32))), none, none]) C dX5_hanging_146 rfl rfl (Nat.le_of_ble_eq_true rfl) rfl rfl ?_
        refine r_goto (tgt := 79) C dX5_hanging_149 (by decide) ?_
        exact ih x1 x2 x3 x4 x5 x6 x8 x9 x10 v8 (x12 + (1 : Int32)) P6
      · refine r_aload_n C dX5_hanging_126 rfl rfl ?_
        refine r_getA C fl_X5_129 hk dX5_hanging_127 ?_
        refine r_bipush (v := 8) C dX5_hanging_130 rfl ?_
        refine r_iload C dX5_hanging_132 rfl ?_
        refine r_imul C dX5_hanging_134 ?_
        refine r_iload C dX5_hanging_135 rfl ?_
        refine r_iadd C dX5_hanging_137 ?_
        refine r_iald C (rg_670 hk) rfl dX5_hanging_138 fun h9 => ?_
        refine r_goto (tgt := 143) C dX5_hanging_139 (by decide) ?_
        refine r_iadd C dX5_hanging_143 ?_
        refine r_ltI fun v10 => ?_
        refine r_istore (ls' := [some (.ref th), some (.int x1), some (.int x2), some (.int x3), some (.int x4), some (.int x5), some (.long x6), none, some (.int x8), some (.int x9), some (.int x10), some (.int v10), some (.int x12), none, none]) C dX5_hanging_144 (Nat.le_of_ble_eq_true rfl) rfl rfl ?_
        refine r_iinc (v := 1) (ls' := [some (.ref th), some (.int x1), some (.int x2), some (.int x3), some (.int x4), some (.int x5), some (.long x6), none, some (.int x8), some (.int x9), some (.int x10), some (.int v10), some (.int (x12 + (1 : Int32))), none, none]) C dX5_hanging_146 rfl rfl (Nat.le_of_ble_eq_true rfl) rfl rfl ?_
        refine r_goto (tgt := 79) C dX5_hanging_149 (by decide) ?_
        exact ih x1 x2 x3 x4 x5 x6 x8 x9 x10 v10 (x12 + (1 : Int32)) P6
def fX5_hanging_b68 (th : Nat) (kS : (Int32 → Int32 → Int32 → Int32 → Int32 → mm_P → Option (Int64 × mm_P))) (k15 : Int32 → Int32 → Int32 → Int32 → Int32 → Int64 → Int32 → mm_P → Option (Int64 × mm_P)) (x1 : Int32) (x2 : Int32) (x3 : Int32) (x4 : Int32) (x5 : Int32) (x6 : Int64) (x8 : Int32) (x9 : Int32) (s1 : Int32) (s2 : Int32) (P : mm_P) : Option (Int64 × mm_P) :=
  mm_bd (fX5_windOf th P s1 s2) fun r1 =>
  fX5_hanging_b79 th kS k15 mm_NF x1 x2 x3 x4 x5 x6 x8 x9 r1 (0 : Int32) (0 : Int32) P
set_option maxHeartbeats 4000000 in
theorem wfX5_hanging_b68 {E : mm_E} {FR LC FRS LCS : Nat} (hFR : FRS + 1 ≤ FR) (hFb : 3 ≤ FR) (hLC : LCS + 34 ≤ LC) (hLb : 70 ≤ LC) (C : mm_Cx E RX5 cX5_hanging 15 (some .long) FR LC) {K : mm_K} {th : Nat} (hk : K.1 th = 5) {nx sl : Nat} {kS : (Int32 → Int32 → Int32 → Int32 → Int32 → mm_P → Option (Int64 × mm_P))} (hkS : ∀ (z0 : Int32) (z1 : Int32) (z2 : Int32) (z3 : Int32) (z4 : Int32) (P : mm_P) (r : (Int64 × mm_P)), kS z0 z1 z2 z3 z4 P = some r → mm_C (eL E) yX5_hanging (ws_ yX5_hanging cX5_hanging 15 (some .long)) FRS LCS [.ref th, .int z0, .int z1, .int z2, .int z3, .int z4] K P nx sl (mm_wwL K nx sl r)) {k15 : Int32 → Int32 → Int32 → Int32 → Int32 → Int64 → Int32 → mm_P → Option (Int64 × mm_P)} (hk15 : ∀ (x1 : Int32) (x2 : Int32) (x3 : Int32) (x4 : Int32) (x5 : Int32) (x6 : Int64) (x8 : Int32) (P : mm_P), mm_V E (mm_wwL K nx sl) 15 [some (.ref th), some (.int x1), some (.int x2), some (.int x3), some (.int x4), some (.int x5), some (.long x6), none, some (.int x8), none, none, none, none, none, none] [] K P nx sl (k15 x1 x2 x3 x4 x5 x6 x8 P)) (x1 : Int32) (x2 : Int32) (x3 : Int32) (x4 : Int32) (x5 : Int32) (x6 : Int64) (x8 : Int32) (x9 : Int32) (s1 : Int32) (s2 : Int32) (P : mm_P) : mm_V E (mm_wwL K nx sl) 68 [some (.ref th), some (.int x1), some (.int x2), some (.int x3), some (.int x4), some (.int x5), some (.long x6), none, some (.int x8), some (.int x9), none, none, none, none, none] [.int s2, .int s1, .ref th] K P nx sl (fX5_hanging_b68 th kS k15 x1 x2 x3 x4 x5 x6 x8 x9 s1 s2 P) := by
  unfold fX5_hanging_b68
  refine r_bd fun r1 h2 => ?_
  refine r_callV (As := [.int s1, .int s2]) (st := []) C (mc_X5_windOf hk h2) cv_X5_332 hk rfl (by omega) (by omega) rfl (Nat.le_of_ble_eq_true rfl) dX5_hanging_68 ?_
  refine r_istore (ls' := [some (.ref th), some (.int x1), some (.int x2), some (.int x3), some (.int x4), some (.int x5), some (.long x6), none, some (.int x8), some (.int x9), some (.int r1), none, none, none, none]) C dX5_hanging_71 (Nat.le_of_ble_eq_true rfl) rfl rfl ?_
  refine r_iconst (v := 0) C dX5_hanging_73 rfl ?_
  refine r_istore (ls' := [some (.ref th), some (.int x1), some (.int x2), some (.int x3), some (.int x4), some (.int x5), some (.long x6), none, some (.int x8), some (.int x9), some (.int r1), some (.int (0 : Int32)), none, none, none]) C dX5_hanging_74 (Nat.le_of_ble_eq_true rfl) rfl rfl ?_
  refine r_iconst (v := 0) C dX5_hanging_76 rfl ?_
  refine r_istore (ls' := [some (.ref th), some (.int x1), some (.int x2), some (.int x3), some (.int x4), some (.int x5), some (.long x6), none, some (.int x8), some (.int x9), some (.int r1), some (.int (0 : Int32)), some (.int (0 : Int32)), none, none]) C dX5_hanging_77 (Nat.le_of_ble_eq_true rfl) rfl rfl ?_
  exact wfX5_hanging_b79 hFR hFb hLC hLb C hk hkS hk15 mm_NF x1 x2 x3 x4 x5 x6 x8 x9 r1 (0 : Int32) (0 : Int32) P
def fX5_hanging_b45 (th : Nat) (kS : (Int32 → Int32 → Int32 → Int32 → Int32 → mm_P → Option (Int64 × mm_P))) (k15 : Int32 → Int32 → Int32 → Int32 → Int32 → Int64 → Int32 → mm_P → Option (Int64 × mm_P)) (x1 : Int32) (x2 : Int32) (x3 : Int32) (x4 : Int32) (x5 : Int32) (x6 : Int64) (x8 : Int32) (s0 : Int32) (P : mm_P) : Option (Int64 × mm_P) :=
  mm_gd (mm_in (0 : Int32) 1242) <|
  if x8 ≠ (1 : Int32) then
  (fX5_hanging_b68 th kS k15 x1 x2 x3 x4 x5 x6 x8 s0 ((gA P 662 th (0 : Int32).toNatClampNeg) + x4) (0 : Int32) P)
  else
  (fX5_hanging_b68 th kS k15 x1 x2 x3 x4 x5 x6 x8 s0 ((gA P 662 th (0 : Int32).toNatClampNeg) + x4) (1 : Int32) P)
set_option maxHeartbeats 4000000 in
theorem wfX5_hanging_b45 {E : mm_E} {FR LC FRS LCS : Nat} (hFR : FRS + 1 ≤ FR) (hFb : 3 ≤ FR) (hLC : LCS + 34 ≤ LC) (hLb : 70 ≤ LC) (C : mm_Cx E RX5 cX5_hanging 15 (some .long) FR LC) {K : mm_K} {th : Nat} (hk : K.1 th = 5) {nx sl : Nat} {kS : (Int32 → Int32 → Int32 → Int32 → Int32 → mm_P → Option (Int64 × mm_P))} (hkS : ∀ (z0 : Int32) (z1 : Int32) (z2 : Int32) (z3 : Int32) (z4 : Int32) (P : mm_P) (r : (Int64 × mm_P)), kS z0 z1 z2 z3 z4 P = some r → mm_C (eL E) yX5_hanging (ws_ yX5_hanging cX5_hanging 15 (some .long)) FRS LCS [.ref th, .int z0, .int z1, .int z2, .int z3, .int z4] K P nx sl (mm_wwL K nx sl r)) {k15 : Int32 → Int32 → Int32 → Int32 → Int32 → Int64 → Int32 → mm_P → Option (Int64 × mm_P)} (hk15 : ∀ (x1 : Int32) (x2 : Int32) (x3 : Int32) (x4 : Int32) (x5 : Int32) (x6 : Int64) (x8 : Int32) (P : mm_P), mm_V E (mm_wwL K nx sl) 15 [some (.ref th), some (.int x1), some (.int x2), some (.int x3), some (.int x4), some (.int x5), some (.long x6), none, some (.int x8), none, none, none, none, none, none] [] K P nx sl (k15 x1 x2 x3 x4 x5 x6 x8 P)) (x1 : Int32) (x2 : Int32) (x3 : Int32) (x4 : Int32) (x5 : Int32) (x6 : Int64) (x8 : Int32) (s0 : Int32) (P : mm_P) : mm_V E (mm_wwL K nx sl) 45 [some (.ref th), some (.int x1), some (.int x2), some (.int x3), some (.int x4), some (.int x5), some (.long x6), none, some (.int x8), none, none, none, none, none, none] [.int s0] K P nx sl (fX5_hanging_b45 th kS k15 x1 x2 x3 x4 x5 x6 x8 s0 P) := by
  unfold fX5_hanging_b45
  refine r_istore (ls' := [some (.ref th), some (.int x1), some (.int x2), some (.int x3), some (.int x4), some (.int x5), some (.long x6), none, some (.int x8), some (.int s0), none, none, none, none, none]) C dX5_hanging_45 (Nat.le_of_ble_eq_true rfl) rfl rfl ?_
  refine r_aload_n C dX5_hanging_47 rfl rfl ?_
  refine r_aload_n C dX5_hanging_48 rfl rfl ?_
  refine r_getA C fl_X5_113 hk dX5_hanging_49 ?_
  refine r_iconst (v := 0) C dX5_hanging_52 rfl ?_
  refine r_iald C (rg_662 hk) rfl dX5_hanging_53 fun h1 => ?_
  refine r_iload C dX5_hanging_54 rfl ?_
  refine r_iadd C dX5_hanging_56 ?_
  refine r_iload C dX5_hanging_57 rfl ?_
  refine r_iconst (v := 1) C dX5_hanging_59 rfl ?_
  refine r_icmpne (tgt := 67) C dX5_hanging_60 (by decide) (fun h2 => ?_) (fun h2 => ?_)
  · refine r_iconst (v := 0) C dX5_hanging_67 rfl ?_
    exact wfX5_hanging_b68 hFR hFb hLC hLb C hk hkS hk15 x1 x2 x3 x4 x5 x6 x8 s0 ((gA P 662 th (0 : Int32).toNatClampNeg) + x4) (0 : Int32) P
  · refine r_iconst (v := 1) C dX5_hanging_63 rfl ?_
    refine r_goto (tgt := 68) C dX5_hanging_64 (by decide) ?_
    exact wfX5_hanging_b68 hFR hFb hLC hLb C hk hkS hk15 x1 x2 x3 x4 x5 x6 x8 s0 ((gA P 662 th (0 : Int32).toNatClampNeg) + x4) (1 : Int32) P
def fX5_hanging_b15 (th : Nat) (kS : (Int32 → Int32 → Int32 → Int32 → Int32 → mm_P → Option (Int64 × mm_P)))  : Nat → Int32 → Int32 → Int32 → Int32 → Int32 → Int64 → Int32 → mm_P → Option (Int64 × mm_P)
  | 0, _, _, _, _, _, _, _, _ => none
  | n + 1, x1, x2, x3, x4, x5, x6, x8, P =>
  if (2 : Int32) ≤ x8 then
  (some (x6, P))
  else
  (if x8 ≠ (1 : Int32) then
  (mm_gd (mm_in (4 : Int32) 200) <|
  fX5_hanging_b45 th kS (fX5_hanging_b15 th kS n) x1 x2 x3 x4 x5 x6 x8 ((10 : Int32) - (gA P 650 th (4 : Int32).toNatClampNeg)) P)
  else
  (mm_gd (mm_in (4 : Int32) 200) <|
  fX5_hanging_b45 th kS (fX5_hanging_b15 th kS n) x1 x2 x3 x4 x5 x6 x8 (gA P 650 th (4 : Int32).toNatClampNeg) P))
set_option maxHeartbeats 4000000 in
theorem wfX5_hanging_b15 {E : mm_E} {FR LC FRS LCS : Nat} (hFR : FRS + 1 ≤ FR) (hFb : 3 ≤ FR) (hLC : LCS + 34 ≤ LC) (hLb : 70 ≤ LC) (C : mm_Cx E RX5 cX5_hanging 15 (some .long) FR LC) {K : mm_K} {th : Nat} (hk : K.1 th = 5) {nx sl : Nat} {kS : (Int32 → Int32 → Int32 → Int32 → Int32 → mm_P → Option (Int64 × mm_P))} (hkS : ∀ (z0 : Int32) (z1 : Int32) (z2 : Int32) (z3 : Int32) (z4 : Int32) (P : mm_P) (r : (Int64 × mm_P)), kS z0 z1 z2 z3 z4 P = some r → mm_C (eL E) yX5_hanging (ws_ yX5_hanging cX5_hanging 15 (some .long)) FRS LCS [.ref th, .int z0, .int z1, .int z2, .int z3, .int z4] K P nx sl (mm_wwL K nx sl r)) : ∀ (n : Nat), ∀ (x1 : Int32) (x2 : Int32) (x3 : Int32) (x4 : Int32) (x5 : Int32) (x6 : Int64) (x8 : Int32) (P : mm_P), mm_V E (mm_wwL K nx sl) 15 [some (.ref th), some (.int x1), some (.int x2), some (.int x3), some (.int x4), some (.int x5), some (.long x6), none, some (.int x8), none, none, none, none, none, none] [] K P nx sl (fX5_hanging_b15 th kS n x1 x2 x3 x4 x5 x6 x8 P) := by
  intro n
  induction n with
  | zero => intro x1 x2 x3 x4 x5 x6 x8 P; exact r_none
  | succ n ih =>
    intro x1 x2 x3 x4 x5 x6 x8 P
    rw [fX5_hanging_b15]
    refine r_iload C dX5_hanging_15 rfl ?_
    refine r_iconst (v := 2) C dX5_hanging_17 rfl ?_
    refine r_icmpge (tgt := 321) C dX5_hanging_18 (by decide) (fun h1 => ?_) (fun h1 => ?_)
    · refine r_lload C dX5_hanging_321 rfl ?_
      exact r_lret C dX5_hanging_323 rfl
    · refine r_iload C dX5_hanging_21 rfl ?_
      refine r_iconst (v := 1) C dX5_hanging_23 rfl ?_
      refine r_icmpne (tgt := 36) C dX5_hanging_24 (by decide) (fun h2 => ?_) (fun h2 => ?_)
      · refine r_bipush (v := 10) C dX5_hanging_36 rfl ?_
        refine r_aload_n C dX5_hanging_38 rfl rfl ?_
        refine r_getA C fl_X5_89 hk dX5_hanging_39 ?_
        refine r_iconst (v := 4) C dX5_hanging_42 rfl ?_
        refine r_iald C (rg_650 hk) rfl dX5_hanging_43 fun h3 => ?_
        refine r_isub C dX5_hanging_44 ?_
        exact wfX5_hanging_b45 hFR hFb hLC hLb C hk hkS ih x1 x2 x3 x4 x5 x6 x8 ((10 : Int32) - (gA P 650 th (4 : Int32).toNatClampNeg)) P
      · refine r_aload_n C dX5_hanging_27 rfl rfl ?_
        refine r_getA C fl_X5_89 hk dX5_hanging_28 ?_
        refine r_iconst (v := 4) C dX5_hanging_31 rfl ?_
        refine r_iald C (rg_650 hk) rfl dX5_hanging_32 fun h4 => ?_
        refine r_goto (tgt := 45) C dX5_hanging_33 (by decide) ?_
        exact wfX5_hanging_b45 hFR hFb hLC hLb C hk hkS ih x1 x2 x3 x4 x5 x6 x8 (gA P 650 th (4 : Int32).toNatClampNeg) P
def fX5_hanging_o (th : Nat) (kS : (Int32 → Int32 → Int32 → Int32 → Int32 → mm_P → Option (Int64 × mm_P))) (x1 : Int32) (x2 : Int32) (x3 : Int32) (x4 : Int32) (x5 : Int32) (P : mm_P) : Option (Int64 × mm_P) :=
  if x4 ≠ x5 then
  (fX5_hanging_b15 th kS mm_NF x1 x2 x3 x4 x5 (0 : Int64) (0 : Int32) P)
  else
  (some ((1 : Int64), P))
def fX5_hanging (th : Nat) : Nat → Int32 → Int32 → Int32 → Int32 → Int32 → mm_P → Option (Int64 × mm_P)
  | 0, _, _, _, _, _, _ => none
  | d + 1, x1, x2, x3, x4, x5, P => fX5_hanging_o th (fX5_hanging th d) x1 x2 x3 x4 x5 P
set_option maxHeartbeats 4000000 in
theorem mc_X5_hanging {l : Launch} {K : mm_K} {th : Nat} {nx sl : Nat} : ∀ (d : Nat) {x1 : Int32} {x2 : Int32} {x3 : Int32} {x4 : Int32} {x5 : Int32} {P : mm_P} {r : (Int64 × mm_P)} (hk : K.1 th = 5) (_ : fX5_hanging th d x1 x2 x3 x4 x5 P = some r), mm_C l yX5_hanging (ws_ yX5_hanging cX5_hanging 15 (some .long)) (1 * d + 3) (34 * d + 70) [.ref th, .int x1, .int x2, .int x3, .int x4, .int x5] K P nx sl (mm_wwL K nx sl r) := by
  intro d
  induction d with
  | zero => intro x1 x2 x3 x4 x5 P r hk h; cases h
  | succ d ih =>
  intro x1 x2 x3 x4 x5 P r hk h
  refine mm_start (ls := [some (.ref th), some (.int x1), some (.int x2), some (.int x3), some (.int x4), some (.int x5), none, none, none, none, none, none, none, none, none]) (x := fX5_hanging_o th (fX5_hanging th d) x1 x2 x3 x4 x5 P) h (by decide) (Nat.le_of_ble_eq_true rfl) rfl (Nat.le_refl _) (Nat.le_refl _) rfl fun E hl _ _ _ C => ?_
  have C : mm_Cx E RX5 cX5_hanging 15 (some .long) (1 * (d + 1) + 3) (34 * (d + 1) + 70) := C
  generalize hFe : (1 * (d + 1) + 3) = FR at C
  generalize hLe : (34 * (d + 1) + 70) = LC at C
  generalize hFs : (1 * d + 3) = FRS at ih
  generalize hLs : (34 * d + 70) = LCS at ih
  have hFR : FRS + 1 ≤ FR := by omega
  have hFb : 3 ≤ FR := by omega
  have hLC : LCS + 34 ≤ LC := by omega
  have hLb : 70 ≤ LC := by omega
  subst hl
  have hkS := fun x1 x2 x3 x4 x5 P r (hq : fX5_hanging th d x1 x2 x3 x4 x5 P = some r) => ih hk hq
  clear hFe hLe h hFs hLs ih
  generalize fX5_hanging th d = kS at hkS ⊢
  unfold fX5_hanging_o
  refine r_iload C dX5_hanging_0 rfl ?_
  refine r_iload C dX5_hanging_2 rfl ?_
  refine r_icmpne (tgt := 9) C dX5_hanging_4 (by decide) (fun h1 => ?_) (fun h1 => ?_)
  · refine r_lconst (v := 0) C dX5_hanging_9 rfl ?_
    refine r_lstore (ls' := [some (.ref th), some (.int x1), some (.int x2), some (.int x3), some (.int x4), some (.int x5), some (.long (0 : Int64)), none, none, none, none, none, none, none, none]) C dX5_hanging_10 (Nat.le_of_ble_eq_true rfl) rfl rfl ?_
    refine r_iconst (v := 0) C dX5_hanging_12 rfl ?_
    refine r_istore (ls' := [some (.ref th), some (.int x1), some (.int x2), some (.int x3), some (.int x4), some (.int x5), some (.long (0 : Int64)), none, some (.int (0 : Int32)), none, none, none, none, none, none]) C dX5_hanging_13 (Nat.le_of_ble_eq_true rfl) rfl rfl ?_
    exact wfX5_hanging_b15 hFR hFb hLC hLb C hk hkS mm_NF x1 x2 x3 x4 x5 (0 : Int64) (0 : Int32) P
  · refine r_lconst (v := 1) C dX5_hanging_7 rfl ?_
    exact r_lret C dX5_hanging_8 rfl
/-! odds -/
def fX5_odds_b68 (th : Nat)  : Nat → Int32 → Int32 → Int64 → Int32 → mm_P → Option (Int32 × mm_P)
  | 0, _, _, _, _, _ => none
  | n + 1, x1, x2, x3, x5, P =>
  if x2 ≤ x5 then
  (mm_gd (mm_in ((14 : Int32) + x1) 1242) <|
  mm_gd (mm_in ((2 : Int32) + x1) 1242) <|
  mm_bd (fX5_hanging th 10 x1 (gA P 662 th ((14 : Int32) + x1).toNatClampNeg) (gA P 662 th ((2 : Int32) + x1).toNatClampNeg) (0 : Int32) x2 P) fun r4 =>
  mm_gd (¬ x3 = 0) <|
  some (((r4.1 * (1000000 : Int64)) / x3).toInt32, r4.2))
  else
  (mm_lt (x3 * (10 : Int64)) fun v7 =>
  fX5_odds_b68 th n x1 x2 v7 (x5 + (1 : Int32)) P)
set_option maxHeartbeats 4000000 in
theorem wfX5_odds_b68 {E : mm_E} (C : mm_Cx E RX5 cX5_odds 6 (some .int) 14 444) {K : mm_K} {th : Nat} (hk : K.1 th = 5) {nx sl : Nat} : ∀ (n : Nat), ∀ (x1 : Int32) (x2 : Int32) (x3 : Int64) (x5 : Int32) (P : mm_P), mm_V E (mm_wwI K nx sl) 68 [some (.ref th), some (.int x1), some (.int x2), some (.long x3), none, some (.int x5)] [] K P nx sl (fX5_odds_b68 th n x1 x2 x3 x5 P) := by
  intro n
  induction n with
  | zero => intro x1 x2 x3 x5 P; exact r_none
  | succ n ih =>
    intro x1 x2 x3 x5 P
    rw [fX5_odds_b68]
    refine r_iload C dX5_odds_68 rfl ?_
    refine r_iload_n C dX5_odds_70 rfl rfl ?_
    refine r_icmpge (tgt := 86) C dX5_odds_71 (by decide) (fun h1 => ?_) (fun h1 => ?_)
    · refine r_aload_n C dX5_odds_86 rfl rfl ?_
      refine r_iload_n C dX5_odds_87 rfl rfl ?_
      refine r_aload_n C dX5_odds_88 rfl rfl ?_
      refine r_getA C fl_X5_113 hk dX5_odds_89 ?_
      refine r_bipush (v := 14) C dX5_odds_92 rfl ?_
      refine r_iload_n C dX5_odds_94 rfl rfl ?_
      refine r_iadd C dX5_odds_95 ?_
      refine r_iald C (rg_662 hk) rfl dX5_odds_96 fun h2 => ?_
      refine r_aload_n C dX5_odds_97 rfl rfl ?_
      refine r_getA C fl_X5_113 hk dX5_odds_98 ?_
      refine r_iconst (v := 2) C dX5_odds_101 rfl ?_
      refine r_iload_n C dX5_odds_102 rfl rfl ?_
      refine r_iadd C dX5_odds_103 ?_
      refine r_iald C (rg_662 hk) rfl dX5_odds_104 fun h3 => ?_
      refine r_iconst (v := 0) C dX5_odds_105 rfl ?_
      refine r_iload_n C dX5_odds_106 rfl rfl ?_
      refine r_bd fun r4 h5 => ?_
      refine r_callV (As := [.int x1, .int (gA P 662 th ((14 : Int32) + x1).toNatClampNeg), .int (gA P 662 th ((2 : Int32) + x1).toNatClampNeg), .int (0 : Int32), .int x2]) (st := []) C (mc_X5_hanging 10 hk h5) cv_X5_404 hk rfl (Nat.le_of_ble_eq_true rfl) (Nat.le_of_ble_eq_true rfl) rfl (Nat.le_of_ble_eq_true rfl) dX5_odds_107 ?_
      refine r_ldc2 (v := 1000000) C dX5_odds_110 q2120 ?_
      refine r_lmul C dX5_odds_113 ?_
      refine r_lload_n C dX5_odds_114 rfl rfl ?_
      refine r_gd fun h6 => ?_
      refine r_ldiv C dX5_odds_115 h6 ?_
      refine r_l2i C dX5_odds_116 ?_
      exact r_iret C dX5_odds_117 rfl
    · refine r_lload_n C dX5_odds_74 rfl rfl ?_
      refine r_ldc2 (v := 10) C dX5_odds_75 q1798 ?_
      refine r_lmul C dX5_odds_78 ?_
      refine r_ltL fun v7 => ?_
      refine r_lstore_n (ls' := [some (.ref th), some (.int x1), some (.int x2), some (.long v7), none, some (.int x5)]) C dX5_odds_79 rfl (Nat.le_of_ble_eq_true rfl) rfl rfl ?_
      refine r_iinc (v := 1) (ls' := [some (.ref th), some (.int x1), some (.int x2), some (.long v7), none, some (.int (x5 + (1 : Int32)))]) C dX5_odds_80 rfl rfl (Nat.le_of_ble_eq_true rfl) rfl rfl ?_
      refine r_goto (tgt := 68) C dX5_odds_83 (by decide) ?_
      exact ih x1 x2 v7 (x5 + (1 : Int32)) P
def fX5_odds_b36 (th : Nat)  : Nat → Int32 → Int32 → Int32 → mm_P → Option (Int32 × mm_P)
  | 0, _, _, _, _ => none
  | n + 1, x1, x2, x3, P =>
  if (8 : Int32) ≤ x3 then
  (fX5_odds_b68 th mm_NF x1 x2 (1 : Int64) (0 : Int32) P)
  else
  (mm_gd (mm_in ((20 : Int32) + x3) 1242) <|
  mm_gd (mm_in x3 72) <|
  mm_lt (sA P 670 th x3.toNatClampNeg (gA P 662 th ((20 : Int32) + x3).toNatClampNeg)) fun P4 =>
  fX5_odds_b36 th n x1 x2 (x3 + (1 : Int32)) P4)
set_option maxHeartbeats 4000000 in
theorem wfX5_odds_b36 {E : mm_E} (C : mm_Cx E RX5 cX5_odds 6 (some .int) 14 444) {K : mm_K} {th : Nat} (hk : K.1 th = 5) {nx sl : Nat} : ∀ (n : Nat), ∀ (x1 : Int32) (x2 : Int32) (x3 : Int32) (P : mm_P), mm_V E (mm_wwI K nx sl) 36 [some (.ref th), some (.int x1), some (.int x2), some (.int x3), none, none] [] K P nx sl (fX5_odds_b36 th n x1 x2 x3 P) := by
  intro n
  induction n with
  | zero => intro x1 x2 x3 P; exact r_none
  | succ n ih =>
    intro x1 x2 x3 P
    rw [fX5_odds_b36]
    refine r_iload_n C dX5_odds_36 rfl rfl ?_
    refine r_bipush (v := 8) C dX5_odds_37 rfl ?_
    refine r_icmpge (tgt := 63) C dX5_odds_39 (by decide) (fun h1 => ?_) (fun h1 => ?_)
    · refine r_lconst (v := 1) C dX5_odds_63 rfl ?_
      refine r_lstore_n (ls' := [some (.ref th), some (.int x1), some (.int x2), some (.long (1 : Int64)), none, none]) C dX5_odds_64 rfl (Nat.le_of_ble_eq_true rfl) rfl rfl ?_
      refine r_iconst (v := 0) C dX5_odds_65 rfl ?_
      refine r_istore (ls' := [some (.ref th), some (.int x1), some (.int x2), some (.long (1 : Int64)), none, some (.int (0 : Int32))]) C dX5_odds_66 (Nat.le_of_ble_eq_true rfl) rfl rfl ?_
      exact wfX5_odds_b68 C hk mm_NF x1 x2 (1 : Int64) (0 : Int32) P
    · refine r_aload_n C dX5_odds_42 rfl rfl ?_
      refine r_getA C fl_X5_129 hk dX5_odds_43 ?_
      refine r_iload_n C dX5_odds_46 rfl rfl ?_
      refine r_aload_n C dX5_odds_47 rfl rfl ?_
      refine r_getA C fl_X5_113 hk dX5_odds_48 ?_
      refine r_bipush (v := 20) C dX5_odds_51 rfl ?_
      refine r_iload_n C dX5_odds_53 rfl rfl ?_
      refine r_iadd C dX5_odds_54 ?_
      refine r_iald C (rg_662 hk) rfl dX5_odds_55 fun h2 => ?_
      refine r_iast C (rg_670 hk) (mm_ro_of (k := 5) hk rfl) rfl dX5_odds_56 fun h3 => ?_
      refine r_ltP fun P4 => ?_
      refine r_iinc (v := 1) (ls' := [some (.ref th), some (.int x1), some (.int x2), some (.int (x3 + (1 : Int32))), none, none]) C dX5_odds_57 rfl rfl (Nat.le_of_ble_eq_true rfl) rfl rfl ?_
      refine r_goto (tgt := 36) C dX5_odds_60 (by decide) ?_
      exact ih x1 x2 (x3 + (1 : Int32)) P4
def fX5_odds (th : Nat) (x1 : Int32) (x2 : Int32) (P : mm_P) : Option (Int32 × mm_P) :=
  mm_lt (sI P 640 th (0 : Int32)) fun P1 =>
  mm_bd (fX5_isCloth th P1 x1) fun r2 =>
  if r2 = 0 then
  (some ((-1 : Int32), P1))
  else
  (mm_bd (fX5_within x2 (1 : Int32) (8 : Int32)) fun r5 =>
  if r5 = 0 then
  (some ((-1 : Int32), P1))
  else
  (mm_bd (fX5_isHung th P1 (0 : Int32) x1) fun r8 =>
  if r8 ≠ 0 then
  (fX5_odds_b36 th mm_NF x1 x2 (0 : Int32) P1)
  else
  (some ((-1 : Int32), P1))))
set_option maxHeartbeats 4000000 in
theorem mc_X5_odds {l : Launch} {K : mm_K} {P : mm_P} {th : Nat} {x1 : Int32} {x2 : Int32} {nx sl : Nat} {r : (Int32 × mm_P)} (hk : K.1 th = 5) (h : fX5_odds th x1 x2 P = some r) : mm_C l yX5_odds (ws_ yX5_odds cX5_odds 6 (some .int)) 14 444 [.ref th, .int x1, .int x2] K P nx sl (mm_wwI K nx sl r) :=
  mm_start (ls := [some (.ref th), some (.int x1), some (.int x2), none, none, none]) h (by decide) (Nat.le_of_ble_eq_true rfl) rfl (Nat.le_refl _) (Nat.le_refl _) rfl fun E hl9 _ _ _ C => by
  have C : mm_Cx E RX5 cX5_odds 6 (some .int) 14 444 := C
  unfold fX5_odds
  refine r_aload_n C dX5_odds_0 rfl rfl ?_
  refine r_iconst (v := 0) C dX5_odds_1 rfl ?_
  refine r_putI (code := 640) C fl_X5_1 hk rfl rfl dX5_odds_2 ?_
  refine r_ltP fun P1 => ?_
  refine r_aload_n C dX5_odds_5 rfl rfl ?_
  refine r_iload_n C dX5_odds_6 rfl rfl ?_
  refine r_bd fun r2 h3 => ?_
  refine r_callV (As := [.int x1]) (st := []) C (mc_X5_isCloth hk h3) cv_X5_346 hk rfl (Nat.le_of_ble_eq_true rfl) (Nat.le_of_ble_eq_true rfl) rfl (Nat.le_of_ble_eq_true rfl) dX5_odds_7 ?_
  refine r_ifeq (tgt := 32) C dX5_odds_10 (by decide) (fun h4 => ?_) (fun h4 => ?_)
  · refine r_iconst (v := -1) C dX5_odds_32 rfl ?_
    exact r_iret C dX5_odds_33 rfl
  · refine r_iload_n C dX5_odds_13 rfl rfl ?_
    refine r_iconst (v := 1) C dX5_odds_14 rfl ?_
    refine r_bipush (v := 8) C dX5_odds_15 rfl ?_
    refine r_bd fun r5 h6 => ?_
    refine r_callS (As := [.int x2, .int (1 : Int32), .int (8 : Int32)]) (st := []) C (mc_X5_within h6) cv_X5_349  rfl (Nat.le_of_ble_eq_true rfl) (Nat.le_of_ble_eq_true rfl) rfl (Nat.le_of_ble_eq_true rfl) dX5_odds_17 ?_
    refine r_ifeq (tgt := 32) C dX5_odds_20 (by decide) (fun h7 => ?_) (fun h7 => ?_)
    · refine r_iconst (v := -1) C dX5_odds_32 rfl ?_
      exact r_iret C dX5_odds_33 rfl
    · refine r_aload_n C dX5_odds_23 rfl rfl ?_
      refine r_iconst (v := 0) C dX5_odds_24 rfl ?_
      refine r_iload_n C dX5_odds_25 rfl rfl ?_
      refine r_bd fun r8 h9 => ?_
      refine r_callV (As := [.int (0 : Int32), .int x1]) (st := []) C (mc_X5_isHung hk h9) cv_X5_304 hk rfl (Nat.le_of_ble_eq_true rfl) (Nat.le_of_ble_eq_true rfl) rfl (Nat.le_of_ble_eq_true rfl) dX5_odds_26 ?_
      refine r_ifne (tgt := 34) C dX5_odds_29 (by decide) (fun h10 => ?_) (fun h10 => ?_)
      · refine r_iconst (v := 0) C dX5_odds_34 rfl ?_
        refine r_istore_n (ls' := [some (.ref th), some (.int x1), some (.int x2), some (.int (0 : Int32)), none, none]) C dX5_odds_35 rfl (Nat.le_of_ble_eq_true rfl) rfl rfl ?_
        exact wfX5_odds_b36 C hk mm_NF x1 x2 (0 : Int32) P1
      · refine r_iconst (v := -1) C dX5_odds_32 rfl ?_
        exact r_iret C dX5_odds_33 rfl
/-! driedBehind -/
def fX5_driedBehind_b44 (th : Nat)  (x3 : Int32) (x4 : Int32) (P : mm_P) : Option (Int32 × mm_P) :=
  if x3 ≤ 0 then
  (some (x4, P))
  else
  (some ((100 : Int32), P))
set_option maxHeartbeats 4000000 in
theorem wfX5_driedBehind_b44 {E : mm_E} (C : mm_Cx E RX5 cX5_driedBehind 5 (some .int) 3 70) {K : mm_K} {th : Nat} (hk : K.1 th = 5) {nx sl : Nat} (x3 : Int32) (x4 : Int32) (P : mm_P) : mm_V E (mm_wwI K nx sl) 44 [none, none, none, some (.int x3), some (.int x4)] [] K P nx sl (fX5_driedBehind_b44 th x3 x4 P) := by
  unfold fX5_driedBehind_b44
  refine r_iload_n C dX5_driedBehind_44 rfl rfl ?_
  refine r_ifle (tgt := 53) C dX5_driedBehind_45 (by decide) (fun h1 => ?_) (fun h1 => ?_)
  · refine r_iload C dX5_driedBehind_53 rfl ?_
    exact r_iret C dX5_driedBehind_55 rfl
  · refine r_bipush (v := 100) C dX5_driedBehind_48 rfl ?_
    refine r_goto (tgt := 55) C dX5_driedBehind_50 (by decide) ?_
    exact r_iret C dX5_driedBehind_55 rfl
def fX5_driedBehind_b6 (th : Nat)  : Nat → Int32 → Int32 → Int32 → mm_P → Option (Int32 × mm_P)
  | 0, _, _, _, _ => none
  | n + 1, x1, x3, x4, P =>
  if x3 ≤ 0 then
  (fX5_driedBehind_b44 th x3 x4 P)
  else
  (if (100 : Int32) ≤ x4 then
  (fX5_driedBehind_b44 th x3 x4 P)
  else
  (mm_gd (mm_in (0 : Int32) 1242) <|
  mm_bd (fX5_windOf th P ((gA P 662 th (0 : Int32).toNatClampNeg) + x4) (0 : Int32)) fun r4 =>
  mm_bd (fX5_driedOf th x1 x3 r4 P) fun r6 =>
  fX5_driedBehind_b6 th n x1 r6.1 (x4 + (1 : Int32)) r6.2))
set_option maxHeartbeats 4000000 in
theorem wfX5_driedBehind_b6 {E : mm_E} (C : mm_Cx E RX5 cX5_driedBehind 5 (some .int) 3 70) {K : mm_K} {th : Nat} (hk : K.1 th = 5) {nx sl : Nat} : ∀ (n : Nat), ∀ (x1 : Int32) (x3 : Int32) (x4 : Int32) (P : mm_P), mm_V E (mm_wwI K nx sl) 6 [some (.ref th), some (.int x1), none, some (.int x3), some (.int x4)] [] K P nx sl (fX5_driedBehind_b6 th n x1 x3 x4 P) := by
  intro n
  induction n with
  | zero => intro x1 x3 x4 P; exact r_none
  | succ n ih =>
    intro x1 x3 x4 P
    rw [fX5_driedBehind_b6]
    refine r_iload_n C dX5_driedBehind_6 rfl rfl ?_
    refine r_ifle (tgt := 44) C dX5_driedBehind_7 (by decide) (fun h1 => ?_) (fun h1 => ?_)
    · refine r_mask [false, false, true, true, true] (ls' := [none, none, none, some (.int x3), some (.int x4)]) rfl ?_
      exact wfX5_driedBehind_b44 C hk x3 x4 P
    · refine r_iload C dX5_driedBehind_10 rfl ?_
      refine r_bipush (v := 100) C dX5_driedBehind_12 rfl ?_
      refine r_icmpge (tgt := 44) C dX5_driedBehind_14 (by decide) (fun h2 => ?_) (fun h2 => ?_)
      · refine r_mask [false, false, true, true, true] (ls' := [none, none, none, some (.int x3), some (.int x4)]) rfl ?_
        exact wfX5_driedBehind_b44 C hk x3 x4 P
      · refine r_aload_n C dX5_driedBehind_17 rfl rfl ?_
        refine r_iload_n C dX5_driedBehind_18 rfl rfl ?_
        refine r_iload_n C dX5_driedBehind_19 rfl rfl ?_
        refine r_aload_n C dX5_driedBehind_20 rfl rfl ?_
        refine r_aload_n C dX5_driedBehind_21 rfl rfl ?_
        refine r_getA C fl_X5_113 hk dX5_driedBehind_22 ?_
        refine r_iconst (v := 0) C dX5_driedBehind_25 rfl ?_
        refine r_iald C (rg_662 hk) rfl dX5_driedBehind_26 fun h3 => ?_
        refine r_iload C dX5_driedBehind_27 rfl ?_
        refine r_iadd C dX5_driedBehind_29 ?_
        refine r_iconst (v := 0) C dX5_driedBehind_30 rfl ?_
        refine r_bd fun r4 h5 => ?_
        refine r_callV (As := [.int ((gA P 662 th (0 : Int32).toNatClampNeg) + x4), .int (0 : Int32)]) (st := [.int x3, .int x1, .ref th]) C (mc_X5_windOf hk h5) cv_X5_332 hk rfl (Nat.le_of_ble_eq_true rfl) (Nat.le_of_ble_eq_true rfl) rfl (Nat.le_of_ble_eq_true rfl) dX5_driedBehind_31 ?_
        refine r_bd fun r6 h7 => ?_
        refine r_callV (As := [.int x1, .int x3, .int r4]) (st := []) C (mc_X5_driedOf hk h7) cv_X5_340 hk rfl (Nat.le_of_ble_eq_true rfl) (Nat.le_of_ble_eq_true rfl) rfl (Nat.le_of_ble_eq_true rfl) dX5_driedBehind_34 ?_
        refine r_istore_n (ls' := [some (.ref th), some (.int x1), none, some (.int r6.1), some (.int x4)]) C dX5_driedBehind_37 rfl (Nat.le_of_ble_eq_true rfl) rfl rfl ?_
        refine r_iinc (v := 1) (ls' := [some (.ref th), some (.int x1), none, some (.int r6.1), some (.int (x4 + (1 : Int32)))]) C dX5_driedBehind_38 rfl rfl (Nat.le_of_ble_eq_true rfl) rfl rfl ?_
        refine r_goto (tgt := 6) C dX5_driedBehind_41 (by decide) ?_
        exact ih x1 r6.1 (x4 + (1 : Int32)) r6.2
def fX5_driedBehind (th : Nat) (x1 : Int32) (x2 : Int32) (P : mm_P) : Option (Int32 × mm_P) :=
  fX5_driedBehind_b6 th mm_NF x1 (9 : Int32) x2 P
set_option maxHeartbeats 4000000 in
theorem mc_X5_driedBehind {l : Launch} {K : mm_K} {P : mm_P} {th : Nat} {x1 : Int32} {x2 : Int32} {nx sl : Nat} {r : (Int32 × mm_P)} (hk : K.1 th = 5) (h : fX5_driedBehind th x1 x2 P = some r) : mm_C l yX5_driedBehind (ws_ yX5_driedBehind cX5_driedBehind 5 (some .int)) 3 70 [.ref th, .int x1, .int x2] K P nx sl (mm_wwI K nx sl r) :=
  mm_start (ls := [some (.ref th), some (.int x1), some (.int x2), none, none]) h (by decide) (Nat.le_of_ble_eq_true rfl) rfl (Nat.le_refl _) (Nat.le_refl _) rfl fun E hl9 _ _ _ C => by
  have C : mm_Cx E RX5 cX5_driedBehind 5 (some .int) 3 70 := C
  unfold fX5_driedBehind
  refine r_bipush (v := 9) C dX5_driedBehind_0 rfl ?_
  refine r_istore_n (ls' := [some (.ref th), some (.int x1), some (.int x2), some (.int (9 : Int32)), none]) C dX5_driedBehind_2 rfl (Nat.le_of_ble_eq_true rfl) rfl rfl ?_
  refine r_iload_n C dX5_driedBehind_3 rfl rfl ?_
  refine r_istore (ls' := [some (.ref th), some (.int x1), some (.int x2), some (.int (9 : Int32)), some (.int x2)]) C dX5_driedBehind_4 (Nat.le_of_ble_eq_true rfl) rfl rfl ?_
  refine r_mask [true, true, false, true, true] (ls' := [some (.ref th), some (.int x1), none, some (.int (9 : Int32)), some (.int x2)]) rfl ?_
  exact wfX5_driedBehind_b6 C hk mm_NF x1 (9 : Int32) x2 P
/-! washesFrom -/
def fX5_washesFrom_b129 (th : Nat) (kS : (Int32 → Int32 → Int32 → mm_P → Option mm_P)) (k54 : Int32 → Int32 → Int32 → Int32 → mm_P → Option mm_P) (x1 : Int32) (x2 : Int32) (x3 : Int32) (x4 : Int32) (s1 : Int32) (s2 : Int32) (s3 : Int32) (P : mm_P) : Option mm_P :=
  mm_bd (kS s1 s2 s3 P) fun r1 =>
  k54 x1 x2 x3 (x4 + (1 : Int32)) r1
set_option maxHeartbeats 4000000 in
theorem wfX5_washesFrom_b129 {E : mm_E} {FR LC FRS LCS : Nat} (hFR : FRS + 1 ≤ FR) (hFb : 1 ≤ FR) (hLC : LCS + 25 ≤ LC) (hLb : 20 ≤ LC) (C : mm_Cx E RX5 cX5_washesFrom 6 none FR LC) {K : mm_K} {th : Nat} (hk : K.1 th = 5) {nx sl : Nat} {kS : (Int32 → Int32 → Int32 → mm_P → Option mm_P)} (hkS : ∀ (z0 : Int32) (z1 : Int32) (z2 : Int32) (P : mm_P) (r : mm_P), kS z0 z1 z2 P = some r → mm_C (eL E) yX5_washesFrom (ws_ yX5_washesFrom cX5_washesFrom 6 none) FRS LCS [.ref th, .int z0, .int z1, .int z2] K P nx sl (mm_wwV K nx sl r)) {k54 : Int32 → Int32 → Int32 → Int32 → mm_P → Option mm_P} (hk54 : ∀ (x1 : Int32) (x2 : Int32) (x3 : Int32) (x4 : Int32) (P : mm_P), mm_V E (mm_wwV K nx sl) 54 [some (.ref th), some (.int x1), some (.int x2), some (.int x3), some (.int x4), none] [] K P nx sl (k54 x1 x2 x3 x4 P)) (x1 : Int32) (x2 : Int32) (x3 : Int32) (x4 : Int32) (s1 : Int32) (s2 : Int32) (s3 : Int32) (P : mm_P) : mm_V E (mm_wwV K nx sl) 129 [some (.ref th), some (.int x1), some (.int x2), some (.int x3), some (.int x4), none] [.int s3, .int s2, .int s1, .ref th] K P nx sl (fX5_washesFrom_b129 th kS k54 x1 x2 x3 x4 s1 s2 s3 P) := by
  unfold fX5_washesFrom_b129
  refine r_bd fun r1 h2 => ?_
  refine r_callVv (As := [.int s1, .int s2, .int s3]) (st := []) C (hkS _ _ _ _ _ h2) cv_X5_416 hk rfl (by omega) (by omega) rfl (Nat.le_of_ble_eq_true rfl) dX5_washesFrom_129 ?_
  refine r_iinc (v := 1) (ls' := [some (.ref th), some (.int x1), some (.int x2), some (.int x3), some (.int (x4 + (1 : Int32))), none]) C dX5_washesFrom_132 rfl rfl (Nat.le_of_ble_eq_true rfl) rfl rfl ?_
  refine r_goto (tgt := 54) C dX5_washesFrom_135 (by decide) ?_
  exact hk54 x1 x2 x3 (x4 + (1 : Int32)) r1
def fX5_washesFrom_b54 (th : Nat) (kS : (Int32 → Int32 → Int32 → mm_P → Option mm_P))  : Nat → Int32 → Int32 → Int32 → Int32 → mm_P → Option mm_P
  | 0, _, _, _, _, _ => none
  | n + 1, x1, x2, x3, x4, P =>
  mm_bd (fX5_cloths th P) fun r1 =>
  if r1 ≤ x4 then
  (some P)
  else
  (if ((mm_shr (gI P 675 th) x4) &&& (1 : Int32)) ≠ (1 : Int32) then
  (fX5_washesFrom_b54 th kS n x1 x2 x3 (x4 + (1 : Int32)) P)
  else
  (if ((mm_shr x2 x4) &&& (1 : Int32)) ≠ 0 then
  (fX5_washesFrom_b54 th kS n x1 x2 x3 (x4 + (1 : Int32)) P)
  else
  (mm_gd (mm_in (((6 : Int32) * x4) + x1) 36) <|
  mm_lt (gA P 671 th (((6 : Int32) * x4) + x1).toNatClampNeg) fun v7 =>
  mm_gd (mm_in x1 6) <|
  mm_lt (sA P 672 th x1.toNatClampNeg x4) fun P9 =>
  if v7 ≤ x3 then
  (fX5_washesFrom_b129 th kS (fX5_washesFrom_b54 th kS n) x1 x2 x3 x4 (x1 + (1 : Int32)) (x2 ||| (mm_shl (1 : Int32) x4)) x3 P9)
  else
  (fX5_washesFrom_b129 th kS (fX5_washesFrom_b54 th kS n) x1 x2 x3 x4 (x1 + (1 : Int32)) (x2 ||| (mm_shl (1 : Int32) x4)) v7 P9))))
set_option maxHeartbeats 4000000 in
theorem wfX5_washesFrom_b54 {E : mm_E} {FR LC FRS LCS : Nat} (hFR : FRS + 1 ≤ FR) (hFb : 1 ≤ FR) (hLC : LCS + 25 ≤ LC) (hLb : 20 ≤ LC) (C : mm_Cx E RX5 cX5_washesFrom 6 none FR LC) {K : mm_K} {th : Nat} (hk : K.1 th = 5) {nx sl : Nat} {kS : (Int32 → Int32 → Int32 → mm_P → Option mm_P)} (hkS : ∀ (z0 : Int32) (z1 : Int32) (z2 : Int32) (P : mm_P) (r : mm_P), kS z0 z1 z2 P = some r → mm_C (eL E) yX5_washesFrom (ws_ yX5_washesFrom cX5_washesFrom 6 none) FRS LCS [.ref th, .int z0, .int z1, .int z2] K P nx sl (mm_wwV K nx sl r)) : ∀ (n : Nat), ∀ (x1 : Int32) (x2 : Int32) (x3 : Int32) (x4 : Int32) (P : mm_P), mm_V E (mm_wwV K nx sl) 54 [some (.ref th), some (.int x1), some (.int x2), some (.int x3), some (.int x4), none] [] K P nx sl (fX5_washesFrom_b54 th kS n x1 x2 x3 x4 P) := by
  intro n
  induction n with
  | zero => intro x1 x2 x3 x4 P; exact r_none
  | succ n ih =>
    intro x1 x2 x3 x4 P
    rw [fX5_washesFrom_b54]
    refine r_iload C dX5_washesFrom_54 rfl ?_
    refine r_aload_n C dX5_washesFrom_56 rfl rfl ?_
    refine r_bd fun r1 h2 => ?_
    refine r_callV (As := []) (st := [.int x4]) C (mc_X5_cloths hk h2) cv_X5_292 hk rfl (by omega) (by omega) rfl (Nat.le_of_ble_eq_true rfl) dX5_washesFrom_57 ?_
    refine r_icmpge (tgt := 138) C dX5_washesFrom_60 (by decide) (fun h3 => ?_) (fun h3 => ?_)
    · exact r_vret C dX5_washesFrom_138 rfl
    · refine r_aload_n C dX5_washesFrom_63 rfl rfl ?_
      refine r_getI (code := 675) C fl_X5_410 hk rfl dX5_washesFrom_64 ?_
      refine r_iload C dX5_washesFrom_67 rfl ?_
      refine r_ishr C dX5_washesFrom_69 ?_
      refine r_iconst (v := 1) C dX5_washesFrom_70 rfl ?_
      refine r_iand C dX5_washesFrom_71 ?_
      refine r_iconst (v := 1) C dX5_washesFrom_72 rfl ?_
      refine r_icmpne (tgt := 132) C dX5_washesFrom_73 (by decide) (fun h4 => ?_) (fun h4 => ?_)
      · refine r_iinc (v := 1) (ls' := [some (.ref th), some (.int x1), some (.int x2), some (.int x3), some (.int (x4 + (1 : Int32))), none]) C dX5_washesFrom_132 rfl rfl (Nat.le_of_ble_eq_true rfl) rfl rfl ?_
        refine r_goto (tgt := 54) C dX5_washesFrom_135 (by decide) ?_
        exact ih x1 x2 x3 (x4 + (1 : Int32)) P
      · refine r_iload_n C dX5_washesFrom_76 rfl rfl ?_
        refine r_iload C dX5_washesFrom_77 rfl ?_
        refine r_ishr C dX5_washesFrom_79 ?_
        refine r_iconst (v := 1) C dX5_washesFrom_80 rfl ?_
        refine r_iand C dX5_washesFrom_81 ?_
        refine r_ifne (tgt := 132) C dX5_washesFrom_82 (by decide) (fun h5 => ?_) (fun h5 => ?_)
        · refine r_iinc (v := 1) (ls' := [some (.ref th), some (.int x1), some (.int x2), some (.int x3), some (.int (x4 + (1 : Int32))), none]) C dX5_washesFrom_132 rfl rfl (Nat.le_of_ble_eq_true rfl) rfl rfl ?_
          refine r_goto (tgt := 54) C dX5_washesFrom_135 (by decide) ?_
          exact ih x1 x2 x3 (x4 + (1 : Int32)) P
        · refine r_aload_n C dX5_washesFrom_85 rfl rfl ?_
          refine r_getA C fl_X5_132 hk dX5_washesFrom_86 ?_
          refine r_bipush (v := 6) C dX5_washesFrom_89 rfl ?_
          refine r_iload C dX5_washesFrom_91 rfl ?_
          refine r_imul C dX5_washesFrom_93 ?_
          refine r_iload_n C dX5_washesFrom_94 rfl rfl ?_
          refine r_iadd C dX5_washesFrom_95 ?_
          refine r_iald C (rg_671 hk) rfl dX5_washesFrom_96 fun h6 => ?_
          refine r_ltI fun v7 => ?_
          refine r_istore (ls' := [some (.ref th), some (.int x1), some (.int x2), some (.int x3), some (.int x4), some (.int v7)]) C dX5_washesFrom_97 (Nat.le_of_ble_eq_true rfl) rfl rfl ?_
          refine r_aload_n C dX5_washesFrom_99 rfl rfl ?_
          refine r_getA C fl_X5_135 hk dX5_washesFrom_100 ?_
          refine r_iload_n C dX5_washesFrom_103 rfl rfl ?_
          refine r_iload C dX5_washesFrom_104 rfl ?_
          refine r_iast C (rg_672 hk) (mm_ro_of (k := 5) hk rfl) rfl dX5_washesFrom_106 fun h8 => ?_
          refine r_ltP fun P9 => ?_
          refine r_aload_n C dX5_washesFrom_107 rfl rfl ?_
          refine r_iload_n C dX5_washesFrom_108 rfl rfl ?_
          refine r_iconst (v := 1) C dX5_washesFrom_109 rfl ?_
          refine r_iadd C dX5_washesFrom_110 ?_
          refine r_iload_n C dX5_washesFrom_111 rfl rfl ?_
          refine r_iconst (v := 1) C dX5_washesFrom_112 rfl ?_
          refine r_iload C dX5_washesFrom_113 rfl ?_
          refine r_ishl C dX5_washesFrom_115 ?_
          refine r_ior C dX5_washesFrom_116 ?_
          refine r_iload C dX5_washesFrom_117 rfl ?_
          refine r_iload_n C dX5_washesFrom_119 rfl rfl ?_
          refine r_icmple (tgt := 128) C dX5_washesFrom_120 (by decide) (fun h10 => ?_) (fun h10 => ?_)
          · refine r_iload_n C dX5_washesFrom_128 rfl rfl ?_
            refine r_mask [true, true, true, true, true, false] (ls' := [some (.ref th), some (.int x1), some (.int x2), some (.int x3), some (.int x4), none]) rfl ?_
            exact wfX5_washesFrom_b129 hFR hFb hLC hLb C hk hkS ih x1 x2 x3 x4 (x1 + (1 : Int32)) (x2 ||| (mm_shl (1 : Int32) x4)) x3 P9
          · refine r_iload C dX5_washesFrom_123 rfl ?_
            refine r_goto (tgt := 129) C dX5_washesFrom_125 (by decide) ?_
            refine r_mask [true, true, true, true, true, false] (ls' := [some (.ref th), some (.int x1), some (.int x2), some (.int x3), some (.int x4), none]) rfl ?_
            exact wfX5_washesFrom_b129 hFR hFb hLC hLb C hk hkS ih x1 x2 x3 x4 (x1 + (1 : Int32)) (x2 ||| (mm_shl (1 : Int32) x4)) v7 P9
def fX5_washesFrom_b24 (th : Nat) (kS : (Int32 → Int32 → Int32 → mm_P → Option mm_P))  : Nat → Int32 → Int32 → mm_P → Option mm_P
  | 0, _, _, _ => none
  | n + 1, x1, x4, P =>
  if x1 ≤ x4 then
  (some P)
  else
  (mm_gd (mm_in x4 6) <|
  mm_gd (mm_in x4 6) <|
  mm_lt (sA P 673 th x4.toNatClampNeg (gA P 672 th x4.toNatClampNeg)) fun P4 =>
  fX5_washesFrom_b24 th kS n x1 (x4 + (1 : Int32)) P4)
set_option maxHeartbeats 4000000 in
theorem wfX5_washesFrom_b24 {E : mm_E} {FR LC FRS LCS : Nat} (hFR : FRS + 1 ≤ FR) (hFb : 1 ≤ FR) (hLC : LCS + 25 ≤ LC) (hLb : 20 ≤ LC) (C : mm_Cx E RX5 cX5_washesFrom 6 none FR LC) {K : mm_K} {th : Nat} (hk : K.1 th = 5) {nx sl : Nat} {kS : (Int32 → Int32 → Int32 → mm_P → Option mm_P)} (hkS : ∀ (z0 : Int32) (z1 : Int32) (z2 : Int32) (P : mm_P) (r : mm_P), kS z0 z1 z2 P = some r → mm_C (eL E) yX5_washesFrom (ws_ yX5_washesFrom cX5_washesFrom 6 none) FRS LCS [.ref th, .int z0, .int z1, .int z2] K P nx sl (mm_wwV K nx sl r)) : ∀ (n : Nat), ∀ (x1 : Int32) (x4 : Int32) (P : mm_P), mm_V E (mm_wwV K nx sl) 24 [some (.ref th), some (.int x1), none, none, some (.int x4), none] [] K P nx sl (fX5_washesFrom_b24 th kS n x1 x4 P) := by
  intro n
  induction n with
  | zero => intro x1 x4 P; exact r_none
  | succ n ih =>
    intro x1 x4 P
    rw [fX5_washesFrom_b24]
    refine r_iload C dX5_washesFrom_24 rfl ?_
    refine r_iload_n C dX5_washesFrom_26 rfl rfl ?_
    refine r_icmpge (tgt := 50) C dX5_washesFrom_27 (by decide) (fun h1 => ?_) (fun h1 => ?_)
    · exact r_vret C dX5_washesFrom_50 rfl
    · refine r_aload_n C dX5_washesFrom_30 rfl rfl ?_
      refine r_getA C fl_X5_138 hk dX5_washesFrom_31 ?_
      refine r_iload C dX5_washesFrom_34 rfl ?_
      refine r_aload_n C dX5_washesFrom_36 rfl rfl ?_
      refine r_getA C fl_X5_135 hk dX5_washesFrom_37 ?_
      refine r_iload C dX5_washesFrom_40 rfl ?_
      refine r_iald C (rg_672 hk) rfl dX5_washesFrom_42 fun h2 => ?_
      refine r_iast C (rg_673 hk) (mm_ro_of (k := 5) hk rfl) rfl dX5_washesFrom_43 fun h3 => ?_
      refine r_ltP fun P4 => ?_
      refine r_iinc (v := 1) (ls' := [some (.ref th), some (.int x1), none, none, some (.int (x4 + (1 : Int32))), none]) C dX5_washesFrom_44 rfl rfl (Nat.le_of_ble_eq_true rfl) rfl rfl ?_
      refine r_goto (tgt := 24) C dX5_washesFrom_47 (by decide) ?_
      exact ih x1 (x4 + (1 : Int32)) P4
def fX5_washesFrom_o (th : Nat) (kS : (Int32 → Int32 → Int32 → mm_P → Option mm_P)) (x1 : Int32) (x2 : Int32) (x3 : Int32) (P : mm_P) : Option mm_P :=
  if x2 ≠ (gI P 675 th) then
  (fX5_washesFrom_b54 th kS mm_NF x1 x2 x3 (0 : Int32) P)
  else
  (if (gI P 674 th) ≤ x3 then
  (some P)
  else
  (mm_lt (sI P 674 th x3) fun P3 =>
  fX5_washesFrom_b24 th kS mm_NF x1 (0 : Int32) P3))
def fX5_washesFrom (th : Nat) : Nat → Int32 → Int32 → Int32 → mm_P → Option mm_P
  | 0, _, _, _, _ => none
  | d + 1, x1, x2, x3, P => fX5_washesFrom_o th (fX5_washesFrom th d) x1 x2 x3 P
set_option maxHeartbeats 4000000 in
theorem mc_X5_washesFrom {l : Launch} {K : mm_K} {th : Nat} {nx sl : Nat} : ∀ (d : Nat) {x1 : Int32} {x2 : Int32} {x3 : Int32} {P : mm_P} {r : mm_P} (hk : K.1 th = 5) (_ : fX5_washesFrom th d x1 x2 x3 P = some r), mm_C l yX5_washesFrom (ws_ yX5_washesFrom cX5_washesFrom 6 none) (1 * d + 1) (25 * d + 20) [.ref th, .int x1, .int x2, .int x3] K P nx sl (mm_wwV K nx sl r) := by
  intro d
  induction d with
  | zero => intro x1 x2 x3 P r hk h; cases h
  | succ d ih =>
  intro x1 x2 x3 P r hk h
  refine mm_start (ls := [some (.ref th), some (.int x1), some (.int x2), some (.int x3), none, none]) (x := fX5_washesFrom_o th (fX5_washesFrom th d) x1 x2 x3 P) h (by decide) (Nat.le_of_ble_eq_true rfl) rfl (Nat.le_refl _) (Nat.le_refl _) rfl fun E hl _ _ _ C => ?_
  have C : mm_Cx E RX5 cX5_washesFrom 6 none (1 * (d + 1) + 1) (25 * (d + 1) + 20) := C
  generalize hFe : (1 * (d + 1) + 1) = FR at C
  generalize hLe : (25 * (d + 1) + 20) = LC at C
  generalize hFs : (1 * d + 1) = FRS at ih
  generalize hLs : (25 * d + 20) = LCS at ih
  have hFR : FRS + 1 ≤ FR := by omega
  have hFb : 1 ≤ FR := by omega
  have hLC : LCS + 25 ≤ LC := by omega
  have hLb : 20 ≤ LC := by omega
  subst hl
  have hkS := fun x1 x2 x3 P r (hq : fX5_washesFrom th d x1 x2 x3 P = some r) => ih hk hq
  clear hFe hLe h hFs hLs ih
  generalize fX5_washesFrom th d = kS at hkS ⊢
  unfold fX5_washesFrom_o
  refine r_iload_n C dX5_washesFrom_0 rfl rfl ?_
  refine r_aload_n C dX5_washesFrom_1 rfl rfl ?_
  refine r_getI (code := 675) C fl_X5_410 hk rfl dX5_washesFrom_2 ?_
  refine r_icmpne (tgt := 51) C dX5_washesFrom_5 (by decide) (fun h1 => ?_) (fun h1 => ?_)
  · refine r_iconst (v := 0) C dX5_washesFrom_51 rfl ?_
    refine r_istore (ls' := [some (.ref th), some (.int x1), some (.int x2), some (.int x3), some (.int (0 : Int32)), none]) C dX5_washesFrom_52 (Nat.le_of_ble_eq_true rfl) rfl rfl ?_
    exact wfX5_washesFrom_b54 hFR hFb hLC hLb C hk hkS mm_NF x1 x2 x3 (0 : Int32) P
  · refine r_iload_n C dX5_washesFrom_8 rfl rfl ?_
    refine r_aload_n C dX5_washesFrom_9 rfl rfl ?_
    refine r_getI (code := 674) C fl_X5_413 hk rfl dX5_washesFrom_10 ?_
    refine r_icmpge (tgt := 50) C dX5_washesFrom_13 (by decide) (fun h2 => ?_) (fun h2 => ?_)
    · exact r_vret C dX5_washesFrom_50 rfl
    · refine r_aload_n C dX5_washesFrom_16 rfl rfl ?_
      refine r_iload_n C dX5_washesFrom_17 rfl rfl ?_
      refine r_putI (code := 674) C fl_X5_413 hk rfl rfl dX5_washesFrom_18 ?_
      refine r_ltP fun P3 => ?_
      refine r_iconst (v := 0) C dX5_washesFrom_21 rfl ?_
      refine r_istore (ls' := [some (.ref th), some (.int x1), some (.int x2), some (.int x3), some (.int (0 : Int32)), none]) C dX5_washesFrom_22 (Nat.le_of_ble_eq_true rfl) rfl rfl ?_
      refine r_mask [true, true, false, false, true, true] (ls' := [some (.ref th), some (.int x1), none, none, some (.int (0 : Int32)), none]) rfl ?_
      exact wfX5_washesFrom_b24 hFR hFb hLC hLb C hk hkS mm_NF x1 (0 : Int32) P3
/-! dry -/
def fX5_dry_b59 (th : Nat) (k12 : Int32 → Int32 → mm_P → Option (Int32 × mm_P)) : Nat → Int32 → Int32 → Int32 → mm_P → Option (Int32 × mm_P)
  | 0, _, _, _, _ => none
  | n + 1, x1, x2, x3, P =>
  if (6 : Int32) ≤ x3 then
  (k12 x1 (x2 + (1 : Int32)) P)
  else
  (mm_bd (fX5_driedBehind th x2 x3 P) fun r2 =>
  mm_gd (mm_in (((6 : Int32) * x2) + x3) 36) <|
  mm_lt (sA r2.2 671 th (((6 : Int32) * x2) + x3).toNatClampNeg r2.1) fun P5 =>
  fX5_dry_b59 th k12 n x1 x2 (x3 + (1 : Int32)) P5)
set_option maxHeartbeats 4000000 in
theorem wfX5_dry_b59 {E : mm_E} (C : mm_Cx E RX5 cX5_dry 4 (some .int) 10 245) {K : mm_K} {th : Nat} (hk : K.1 th = 5) {nx sl : Nat} {k12 : Int32 → Int32 → mm_P → Option (Int32 × mm_P)} (hk12 : ∀ (x1 : Int32) (x2 : Int32) (P : mm_P), mm_V E (mm_wwI K nx sl) 12 [some (.ref th), some (.int x1), some (.int x2), none] [] K P nx sl (k12 x1 x2 P)) : ∀ (n : Nat), ∀ (x1 : Int32) (x2 : Int32) (x3 : Int32) (P : mm_P), mm_V E (mm_wwI K nx sl) 59 [some (.ref th), some (.int x1), some (.int x2), some (.int x3)] [] K P nx sl (fX5_dry_b59 th k12 n x1 x2 x3 P) := by
  intro n
  induction n with
  | zero => intro x1 x2 x3 P; exact r_none
  | succ n ih =>
    intro x1 x2 x3 P
    rw [fX5_dry_b59]
    refine r_iload_n C dX5_dry_59 rfl rfl ?_
    refine r_bipush (v := 6) C dX5_dry_60 rfl ?_
    refine r_icmpge (tgt := 88) C dX5_dry_62 (by decide) (fun h1 => ?_) (fun h1 => ?_)
    · refine r_iinc (v := 1) (ls' := [some (.ref th), some (.int x1), some (.int (x2 + (1 : Int32))), some (.int x3)]) C dX5_dry_88 rfl rfl (Nat.le_of_ble_eq_true rfl) rfl rfl ?_
      refine r_goto (tgt := 12) C dX5_dry_91 (by decide) ?_
      refine r_mask [true, true, true, false] (ls' := [some (.ref th), some (.int x1), some (.int (x2 + (1 : Int32))), none]) rfl ?_
      exact hk12 x1 (x2 + (1 : Int32)) P
    · refine r_aload_n C dX5_dry_65 rfl rfl ?_
      refine r_getA C fl_X5_132 hk dX5_dry_66 ?_
      refine r_bipush (v := 6) C dX5_dry_69 rfl ?_
      refine r_iload_n C dX5_dry_71 rfl rfl ?_
      refine r_imul C dX5_dry_72 ?_
      refine r_iload_n C dX5_dry_73 rfl rfl ?_
      refine r_iadd C dX5_dry_74 ?_
      refine r_aload_n C dX5_dry_75 rfl rfl ?_
      refine r_iload_n C dX5_dry_76 rfl rfl ?_
      refine r_iload_n C dX5_dry_77 rfl rfl ?_
      refine r_bd fun r2 h3 => ?_
      refine r_callV (As := [.int x2, .int x3]) (st := [.int (((6 : Int32) * x2) + x3), .ref (th + 20)]) C (mc_X5_driedBehind hk h3) cv_X5_419 hk rfl (Nat.le_of_ble_eq_true rfl) (Nat.le_of_ble_eq_true rfl) rfl (Nat.le_of_ble_eq_true rfl) dX5_dry_78 ?_
      refine r_iast C (rg_671 hk) (mm_ro_of (k := 5) hk rfl) rfl dX5_dry_81 fun h4 => ?_
      refine r_ltP fun P5 => ?_
      refine r_iinc (v := 1) (ls' := [some (.ref th), some (.int x1), some (.int x2), some (.int (x3 + (1 : Int32)))]) C dX5_dry_82 rfl rfl (Nat.le_of_ble_eq_true rfl) rfl rfl ?_
      refine r_goto (tgt := 59) C dX5_dry_85 (by decide) ?_
      exact ih x1 x2 (x3 + (1 : Int32)) P5
def fX5_dry_b12 (th : Nat)  : Nat → Int32 → Int32 → mm_P → Option (Int32 × mm_P)
  | 0, _, _, _ => none
  | n + 1, x1, x2, P =>
  mm_bd (fX5_cloths th P) fun r1 =>
  if r1 ≤ x2 then
  (mm_bd (fX5_bits (gI P 675 th)) fun r4 =>
  mm_bd (fX5_within x1 (0 : Int32) r4) fun r6 =>
  if r6 ≠ 0 then
  (mm_lt (sI P 674 th (100 : Int32)) fun P9 =>
  mm_bd (fX5_washesFrom th 8 (0 : Int32) (0 : Int32) (0 : Int32) P9) fun r10 =>
  if (gI r10 674 th) ≠ (100 : Int32) then
  (if x1 ≠ 0 then
  (mm_gd (mm_in (x1 - (1 : Int32)) 6) <|
  some (gA r10 673 th (x1 - (1 : Int32)).toNatClampNeg, r10))
  else
  (some (gI r10 674 th, r10)))
  else
  (some ((-1 : Int32), r10)))
  else
  (some ((-1 : Int32), P)))
  else
  (mm_bd (fX5_isHung th P (0 : Int32) x2) fun r15 =>
  if r15 ≠ 0 then
  (mm_lt (sI P 675 th ((gI P 675 th) ||| (0 : Int32))) fun P18 =>
  fX5_dry_b59 th (fX5_dry_b12 th n) mm_NF x1 x2 (0 : Int32) P18)
  else
  (mm_gd (mm_in ((8 : Int32) + x2) 1242) <|
  if (gA P 662 th ((8 : Int32) + x2).toNatClampNeg) ≤ 0 then
  (mm_lt (sI P 675 th ((gI P 675 th) ||| (0 : Int32))) fun P21 =>
  fX5_dry_b59 th (fX5_dry_b12 th n) mm_NF x1 x2 (0 : Int32) P21)
  else
  (mm_lt (sI P 675 th ((gI P 675 th) ||| (mm_shl (1 : Int32) x2))) fun P22 =>
  fX5_dry_b59 th (fX5_dry_b12 th n) mm_NF x1 x2 (0 : Int32) P22)))
set_option maxHeartbeats 4000000 in
theorem wfX5_dry_b12 {E : mm_E} (C : mm_Cx E RX5 cX5_dry 4 (some .int) 10 245) {K : mm_K} {th : Nat} (hk : K.1 th = 5) {nx sl : Nat} : ∀ (n : Nat), ∀ (x1 : Int32) (x2 : Int32) (P : mm_P), mm_V E (mm_wwI K nx sl) 12 [some (.ref th), some (.int x1), some (.int x2), none] [] K P nx sl (fX5_dry_b12 th n x1 x2 P) := by
  intro n
  induction n with
  | zero => intro x1 x2 P; exact r_none
  | succ n ih =>
    intro x1 x2 P
    rw [fX5_dry_b12]
    refine r_iload_n C dX5_dry_12 rfl rfl ?_
    refine r_aload_n C dX5_dry_13 rfl rfl ?_
    refine r_bd fun r1 h2 => ?_
    refine r_callV (As := []) (st := [.int x2]) C (mc_X5_cloths hk h2) cv_X5_292 hk rfl (Nat.le_of_ble_eq_true rfl) (Nat.le_of_ble_eq_true rfl) rfl (Nat.le_of_ble_eq_true rfl) dX5_dry_14 ?_
    refine r_icmpge (tgt := 94) C dX5_dry_17 (by decide) (fun h3 => ?_) (fun h3 => ?_)
    · refine r_iload_n C dX5_dry_94 rfl rfl ?_
      refine r_iconst (v := 0) C dX5_dry_95 rfl ?_
      refine r_aload_n C dX5_dry_96 rfl rfl ?_
      refine r_getI (code := 675) C fl_X5_410 hk rfl dX5_dry_97 ?_
      refine r_bd fun r4 h5 => ?_
      refine r_callS (As := [.int (gI P 675 th)]) (st := [.int (0 : Int32), .int x1]) C (mc_X5_bits h5) cv_X5_298  rfl (Nat.le_of_ble_eq_true rfl) (Nat.le_of_ble_eq_true rfl) rfl (Nat.le_of_ble_eq_true rfl) dX5_dry_100 ?_
      refine r_bd fun r6 h7 => ?_
      refine r_callS (As := [.int x1, .int (0 : Int32), .int r4]) (st := []) C (mc_X5_within h7) cv_X5_349  rfl (Nat.le_of_ble_eq_true rfl) (Nat.le_of_ble_eq_true rfl) rfl (Nat.le_of_ble_eq_true rfl) dX5_dry_103 ?_
      refine r_ifne (tgt := 111) C dX5_dry_106 (by decide) (fun h8 => ?_) (fun h8 => ?_)
      · refine r_aload_n C dX5_dry_111 rfl rfl ?_
        refine r_bipush (v := 100) C dX5_dry_112 rfl ?_
        refine r_putI (code := 674) C fl_X5_413 hk rfl rfl dX5_dry_114 ?_
        refine r_ltP fun P9 => ?_
        refine r_aload_n C dX5_dry_117 rfl rfl ?_
        refine r_iconst (v := 0) C dX5_dry_118 rfl ?_
        refine r_iconst (v := 0) C dX5_dry_119 rfl ?_
        refine r_iconst (v := 0) C dX5_dry_120 rfl ?_
        refine r_bd fun r10 h11 => ?_
        refine r_callVv (As := [.int (0 : Int32), .int (0 : Int32), .int (0 : Int32)]) (st := []) C (mc_X5_washesFrom 8 hk h11) cv_X5_416 hk rfl (Nat.le_of_ble_eq_true rfl) (Nat.le_of_ble_eq_true rfl) rfl (Nat.le_of_ble_eq_true rfl) dX5_dry_121 ?_
        refine r_aload_n C dX5_dry_124 rfl rfl ?_
        refine r_getI (code := 674) C fl_X5_413 hk rfl dX5_dry_125 ?_
        refine r_bipush (v := 100) C dX5_dry_128 rfl ?_
        refine r_icmpne (tgt := 137) C dX5_dry_130 (by decide) (fun h12 => ?_) (fun h12 => ?_)
        · refine r_iload_n C dX5_dry_137 rfl rfl ?_
          refine r_ifne (tgt := 148) C dX5_dry_138 (by decide) (fun h13 => ?_) (fun h13 => ?_)
          · refine r_aload_n C dX5_dry_148 rfl rfl ?_
            refine r_getA C fl_X5_138 hk dX5_dry_149 ?_
            refine r_iload_n C dX5_dry_152 rfl rfl ?_
            refine r_iconst (v := 1) C dX5_dry_153 rfl ?_
            refine r_isub C dX5_dry_154 ?_
            refine r_iald C (rg_673 hk) rfl dX5_dry_155 fun h14 => ?_
            exact r_iret C dX5_dry_156 rfl
          · refine r_aload_n C dX5_dry_141 rfl rfl ?_
            refine r_getI (code := 674) C fl_X5_413 hk rfl dX5_dry_142 ?_
            refine r_goto (tgt := 156) C dX5_dry_145 (by decide) ?_
            exact r_iret C dX5_dry_156 rfl
        · refine r_iconst (v := -1) C dX5_dry_133 rfl ?_
          refine r_goto (tgt := 156) C dX5_dry_134 (by decide) ?_
          exact r_iret C dX5_dry_156 rfl
      · refine r_iconst (v := -1) C dX5_dry_109 rfl ?_
        exact r_iret C dX5_dry_110 rfl
    · refine r_aload_n C dX5_dry_20 rfl rfl ?_
      refine r_dup C dX5_dry_21 rfl ?_
      refine r_getI (code := 675) C fl_X5_410 hk rfl dX5_dry_22 ?_
      refine r_aload_n C dX5_dry_25 rfl rfl ?_
      refine r_iconst (v := 0) C dX5_dry_26 rfl ?_
      refine r_iload_n C dX5_dry_27 rfl rfl ?_
      refine r_bd fun r15 h16 => ?_
      refine r_callV (As := [.int (0 : Int32), .int x2]) (st := [.int (gI P 675 th), .ref th]) C (mc_X5_isHung hk h16) cv_X5_304 hk rfl (Nat.le_of_ble_eq_true rfl) (Nat.le_of_ble_eq_true rfl) rfl (Nat.le_of_ble_eq_true rfl) dX5_dry_28 ?_
      refine r_ifne (tgt := 52) C dX5_dry_31 (by decide) (fun h17 => ?_) (fun h17 => ?_)
      · refine r_iconst (v := 0) C dX5_dry_52 rfl ?_
        refine r_ior C dX5_dry_53 ?_
        refine r_putI (code := 675) C fl_X5_410 hk rfl rfl dX5_dry_54 ?_
        refine r_ltP fun P18 => ?_
        refine r_iconst (v := 0) C dX5_dry_57 rfl ?_
        refine r_istore_n (ls' := [some (.ref th), some (.int x1), some (.int x2), some (.int (0 : Int32))]) C dX5_dry_58 rfl (Nat.le_of_ble_eq_true rfl) rfl rfl ?_
        exact wfX5_dry_b59 C hk ih mm_NF x1 x2 (0 : Int32) P18
      · refine r_aload_n C dX5_dry_34 rfl rfl ?_
        refine r_getA C fl_X5_113 hk dX5_dry_35 ?_
        refine r_bipush (v := 8) C dX5_dry_38 rfl ?_
        refine r_iload_n C dX5_dry_40 rfl rfl ?_
        refine r_iadd C dX5_dry_41 ?_
        refine r_iald C (rg_662 hk) rfl dX5_dry_42 fun h19 => ?_
        refine r_ifle (tgt := 52) C dX5_dry_43 (by decide) (fun h20 => ?_) (fun h20 => ?_)
        · refine r_iconst (v := 0) C dX5_dry_52 rfl ?_
          refine r_ior C dX5_dry_53 ?_
          refine r_putI (code := 675) C fl_X5_410 hk rfl rfl dX5_dry_54 ?_
          refine r_ltP fun P21 => ?_
          refine r_iconst (v := 0) C dX5_dry_57 rfl ?_
          refine r_istore_n (ls' := [some (.ref th), some (.int x1), some (.int x2), some (.int (0 : Int32))]) C dX5_dry_58 rfl (Nat.le_of_ble_eq_true rfl) rfl rfl ?_
          exact wfX5_dry_b59 C hk ih mm_NF x1 x2 (0 : Int32) P21
        · refine r_iconst (v := 1) C dX5_dry_46 rfl ?_
          refine r_iload_n C dX5_dry_47 rfl rfl ?_
          refine r_ishl C dX5_dry_48 ?_
          refine r_goto (tgt := 53) C dX5_dry_49 (by decide) ?_
          refine r_ior C dX5_dry_53 ?_
          refine r_putI (code := 675) C fl_X5_410 hk rfl rfl dX5_dry_54 ?_
          refine r_ltP fun P22 => ?_
          refine r_iconst (v := 0) C dX5_dry_57 rfl ?_
          refine r_istore_n (ls' := [some (.ref th), some (.int x1), some (.int x2), some (.int (0 : Int32))]) C dX5_dry_58 rfl (Nat.le_of_ble_eq_true rfl) rfl rfl ?_
          exact wfX5_dry_b59 C hk ih mm_NF x1 x2 (0 : Int32) P22
def fX5_dry (th : Nat) (x1 : Int32) (P : mm_P) : Option (Int32 × mm_P) :=
  mm_lt (sI P 640 th (0 : Int32)) fun P1 =>
  mm_lt (sI P1 675 th (0 : Int32)) fun P2 =>
  fX5_dry_b12 th mm_NF x1 (0 : Int32) P2
set_option maxHeartbeats 4000000 in
theorem mc_X5_dry {l : Launch} {K : mm_K} {P : mm_P} {th : Nat} {x1 : Int32} {nx sl : Nat} {r : (Int32 × mm_P)} (hk : K.1 th = 5) (h : fX5_dry th x1 P = some r) : mm_C l yX5_dry (ws_ yX5_dry cX5_dry 4 (some .int)) 10 245 [.ref th, .int x1] K P nx sl (mm_wwI K nx sl r) :=
  mm_start (ls := [some (.ref th), some (.int x1), none, none]) h (by decide) (Nat.le_of_ble_eq_true rfl) rfl (Nat.le_refl _) (Nat.le_refl _) rfl fun E hl9 _ _ _ C => by
  have C : mm_Cx E RX5 cX5_dry 4 (some .int) 10 245 := C
  unfold fX5_dry
  refine r_aload_n C dX5_dry_0 rfl rfl ?_
  refine r_iconst (v := 0) C dX5_dry_1 rfl ?_
  refine r_putI (code := 640) C fl_X5_1 hk rfl rfl dX5_dry_2 ?_
  refine r_ltP fun P1 => ?_
  refine r_aload_n C dX5_dry_5 rfl rfl ?_
  refine r_iconst (v := 0) C dX5_dry_6 rfl ?_
  refine r_putI (code := 675) C fl_X5_410 hk rfl rfl dX5_dry_7 ?_
  refine r_ltP fun P2 => ?_
  refine r_iconst (v := 0) C dX5_dry_10 rfl ?_
  refine r_istore_n (ls' := [some (.ref th), some (.int x1), some (.int (0 : Int32)), none]) C dX5_dry_11 rfl (Nat.le_of_ble_eq_true rfl) rfl rfl ?_
  exact wfX5_dry_b12 C hk mm_NF x1 (0 : Int32) P2
/-! feel -/
def fX5_feel (th : Nat) (x1 : Int32) (x2 : Int32) (x3 : Int32) (P : mm_P) : Option (Int32 × mm_P) :=
  mm_lt (sI P 640 th (0 : Int32)) fun P1 =>
  mm_bd (fX5_isCloth th P1 x1) fun r2 =>
  if r2 = 0 then
  (some ((0 : Int32), P1))
  else
  (mm_bd (fX5_within x2 (0 : Int32) (12 : Int32)) fun r5 =>
  if r5 = 0 then
  (some ((0 : Int32), P1))
  else
  (mm_bd (fX5_within x3 (0 : Int32) (9 : Int32)) fun r8 =>
  if r8 = 0 then
  (some ((0 : Int32), P1))
  else
  (mm_gd (mm_in (28 : Int32) 1242) <|
  if (gA P1 662 th (28 : Int32).toNatClampNeg) ≠ (8 : Int32) then
  (mm_gd (mm_in (28 : Int32) 1242) <|
  mm_lt ((29 : Int32) + ((3 : Int32) * (gA P1 662 th (28 : Int32).toNatClampNeg))) fun v14 =>
  mm_gd (mm_in v14 1242) <|
  mm_lt (sA P1 662 th v14.toNatClampNeg x1) fun P16 =>
  mm_gd (mm_in (v14 + (1 : Int32)) 1242) <|
  mm_lt (sA P16 662 th (v14 + (1 : Int32)).toNatClampNeg x2) fun P18 =>
  mm_gd (mm_in (v14 + (2 : Int32)) 1242) <|
  mm_lt (sA P18 662 th (v14 + (2 : Int32)).toNatClampNeg x3) fun P20 =>
  mm_gd (mm_in (28 : Int32) 1242) <|
  mm_gd (mm_in (28 : Int32) 1242) <|
  mm_lt (sA P20 662 th (28 : Int32).toNatClampNeg ((gA P20 662 th (28 : Int32).toNatClampNeg) + (1 : Int32))) fun P23 =>
  some ((1 : Int32), P23))
  else
  (some ((0 : Int32), P1)))))
set_option maxHeartbeats 4000000 in
theorem mc_X5_feel {l : Launch} {K : mm_K} {P : mm_P} {th : Nat} {x1 : Int32} {x2 : Int32} {x3 : Int32} {nx sl : Nat} {r : (Int32 × mm_P)} (hk : K.1 th = 5) (h : fX5_feel th x1 x2 x3 P = some r) : mm_C l yX5_feel (ws_ yX5_feel cX5_feel 5 (some .boolean)) 2 41 [.ref th, .int x1, .int x2, .int x3] K P nx sl (mm_wwI K nx sl r) :=
  mm_start (ls := [some (.ref th), some (.int x1), some (.int x2), some (.int x3), none]) h (by decide) (Nat.le_of_ble_eq_true rfl) rfl (Nat.le_refl _) (Nat.le_refl _) rfl fun E hl9 _ _ _ C => by
  have C : mm_Cx E RX5 cX5_feel 5 (some .boolean) 2 41 := C
  unfold fX5_feel
  refine r_aload_n C dX5_feel_0 rfl rfl ?_
  refine r_iconst (v := 0) C dX5_feel_1 rfl ?_
  refine r_putI (code := 640) C fl_X5_1 hk rfl rfl dX5_feel_2 ?_
  refine r_ltP fun P1 => ?_
  refine r_aload_n C dX5_feel_5 rfl rfl ?_
  refine r_iload_n C dX5_feel_6 rfl rfl ?_
  refine r_bd fun r2 h3 => ?_
  refine r_callV (As := [.int x1]) (st := []) C (mc_X5_isCloth hk h3) cv_X5_346 hk rfl (Nat.le_of_ble_eq_true rfl) (Nat.le_of_ble_eq_true rfl) rfl (Nat.le_of_ble_eq_true rfl) dX5_feel_7 ?_
  refine r_ifeq (tgt := 45) C dX5_feel_10 (by decide) (fun h4 => ?_) (fun h4 => ?_)
  · refine r_iconst (v := 0) C dX5_feel_45 rfl ?_
    exact r_zret C dX5_feel_46 rfl rfl
  · refine r_iload_n C dX5_feel_13 rfl rfl ?_
    refine r_iconst (v := 0) C dX5_feel_14 rfl ?_
    refine r_bipush (v := 12) C dX5_feel_15 rfl ?_
    refine r_bd fun r5 h6 => ?_
    refine r_callS (As := [.int x2, .int (0 : Int32), .int (12 : Int32)]) (st := []) C (mc_X5_within h6) cv_X5_349  rfl (Nat.le_of_ble_eq_true rfl) (Nat.le_of_ble_eq_true rfl) rfl (Nat.le_of_ble_eq_true rfl) dX5_feel_17 ?_
    refine r_ifeq (tgt := 45) C dX5_feel_20 (by decide) (fun h7 => ?_) (fun h7 => ?_)
    · refine r_iconst (v := 0) C dX5_feel_45 rfl ?_
      exact r_zret C dX5_feel_46 rfl rfl
    · refine r_iload_n C dX5_feel_23 rfl rfl ?_
      refine r_iconst (v := 0) C dX5_feel_24 rfl ?_
      refine r_bipush (v := 9) C dX5_feel_25 rfl ?_
      refine r_bd fun r8 h9 => ?_
      refine r_callS (As := [.int x3, .int (0 : Int32), .int (9 : Int32)]) (st := []) C (mc_X5_within h9) cv_X5_349  rfl (Nat.le_of_ble_eq_true rfl) (Nat.le_of_ble_eq_true rfl) rfl (Nat.le_of_ble_eq_true rfl) dX5_feel_27 ?_
      refine r_ifeq (tgt := 45) C dX5_feel_30 (by decide) (fun h10 => ?_) (fun h10 => ?_)
      · refine r_iconst (v := 0) C dX5_feel_45 rfl ?_
        exact r_zret C dX5_feel_46 rfl rfl
      · refine r_aload_n C dX5_feel_33 rfl rfl ?_
        refine r_getA C fl_X5_113 hk dX5_feel_34 ?_
        refine r_bipush (v := 28) C dX5_feel_37 rfl ?_
        refine r_iald C (rg_662 hk) rfl dX5_feel_39 fun h11 => ?_
        refine r_bipush (v := 8) C dX5_feel_40 rfl ?_
        refine r_icmpne (tgt := 47) C dX5_feel_42 (by decide) (fun h12 => ?_) (fun h12 => ?_)
        · refine r_bipush (v := 29) C dX5_feel_47 rfl ?_
          refine r_iconst (v := 3) C dX5_feel_49 rfl ?_
          refine r_aload_n C dX5_feel_50 rfl rfl ?_
          refine r_getA C fl_X5_113 hk dX5_feel_51 ?_
          refine r_bipush (v := 28) C dX5_feel_54 rfl ?_
          refine r_iald C (rg_662 hk) rfl dX5_feel_56 fun h13 => ?_
          refine r_imul C dX5_feel_57 ?_
          refine r_iadd C dX5_feel_58 ?_
          refine r_ltI fun v14 => ?_
          refine r_istore (ls' := [some (.ref th), some (.int x1), some (.int x2), some (.int x3), some (.int v14)]) C dX5_feel_59 (Nat.le_of_ble_eq_true rfl) rfl rfl ?_
          refine r_aload_n C dX5_feel_61 rfl rfl ?_
          refine r_getA C fl_X5_113 hk dX5_feel_62 ?_
          refine r_iload C dX5_feel_65 rfl ?_
          refine r_iload_n C dX5_feel_67 rfl rfl ?_
          refine r_iast C (rg_662 hk) (mm_ro_of (k := 5) hk rfl) rfl dX5_feel_68 fun h15 => ?_
          refine r_ltP fun P16 => ?_
          refine r_aload_n C dX5_feel_69 rfl rfl ?_
          refine r_getA C fl_X5_113 hk dX5_feel_70 ?_
          refine r_iload C dX5_feel_73 rfl ?_
          refine r_iconst (v := 1) C dX5_feel_75 rfl ?_
          refine r_iadd C dX5_feel_76 ?_
          refine r_iload_n C dX5_feel_77 rfl rfl ?_
          refine r_iast C (rg_662 hk) (mm_ro_of (k := 5) hk rfl) rfl dX5_feel_78 fun h17 => ?_
          refine r_ltP fun P18 => ?_
          refine r_aload_n C dX5_feel_79 rfl rfl ?_
          refine r_getA C fl_X5_113 hk dX5_feel_80 ?_
          refine r_iload C dX5_feel_83 rfl ?_
          refine r_iconst (v := 2) C dX5_feel_85 rfl ?_
          refine r_iadd C dX5_feel_86 ?_
          refine r_iload_n C dX5_feel_87 rfl rfl ?_
          refine r_iast C (rg_662 hk) (mm_ro_of (k := 5) hk rfl) rfl dX5_feel_88 fun h19 => ?_
          refine r_ltP fun P20 => ?_
          refine r_aload_n C dX5_feel_89 rfl rfl ?_
          refine r_getA C fl_X5_113 hk dX5_feel_90 ?_
          refine r_bipush (v := 28) C dX5_feel_93 rfl ?_
          refine r_dup2_11 C dX5_feel_95 rfl rfl ?_
          refine r_iald C (rg_662 hk) rfl dX5_feel_96 fun h21 => ?_
          refine r_iconst (v := 1) C dX5_feel_97 rfl ?_
          refine r_iadd C dX5_feel_98 ?_
          refine r_iast C (rg_662 hk) (mm_ro_of (k := 5) hk rfl) rfl dX5_feel_99 fun h22 => ?_
          refine r_ltP fun P23 => ?_
          refine r_iconst (v := 1) C dX5_feel_100 rfl ?_
          exact r_zret C dX5_feel_101 rfl rfl
        · refine r_iconst (v := 0) C dX5_feel_45 rfl ?_
          exact r_zret C dX5_feel_46 rfl rfl
/-! wetBehind -/
def fX5_wetBehind_b7 (th : Nat)  : Nat → Int32 → Int32 → Int32 → Int32 → Int32 → mm_P → Option (Int32 × mm_P)
  | 0, _, _, _, _, _, _ => none
  | n + 1, x1, x2, x3, x4, x5, P =>
  if x3 ≤ x5 then
  (some (x4, P))
  else
  (mm_bd (fX5_windOf th P (x2 + x5) (0 : Int32)) fun r2 =>
  mm_bd (fX5_driedOf th x1 x4 r2 P) fun r4 =>
  fX5_wetBehind_b7 th n x1 x2 x3 r4.1 (x5 + (1 : Int32)) r4.2)
set_option maxHeartbeats 4000000 in
theorem wfX5_wetBehind_b7 {E : mm_E} (C : mm_Cx E RX5 cX5_wetBehind 6 (some .int) 3 70) {K : mm_K} {th : Nat} (hk : K.1 th = 5) {nx sl : Nat} : ∀ (n : Nat), ∀ (x1 : Int32) (x2 : Int32) (x3 : Int32) (x4 : Int32) (x5 : Int32) (P : mm_P), mm_V E (mm_wwI K nx sl) 7 [some (.ref th), some (.int x1), some (.int x2), some (.int x3), some (.int x4), some (.int x5)] [] K P nx sl (fX5_wetBehind_b7 th n x1 x2 x3 x4 x5 P) := by
  intro n
  induction n with
  | zero => intro x1 x2 x3 x4 x5 P; exact r_none
  | succ n ih =>
    intro x1 x2 x3 x4 x5 P
    rw [fX5_wetBehind_b7]
    refine r_iload C dX5_wetBehind_7 rfl ?_
    refine r_iload_n C dX5_wetBehind_9 rfl rfl ?_
    refine r_icmpge (tgt := 37) C dX5_wetBehind_10 (by decide) (fun h1 => ?_) (fun h1 => ?_)
    · refine r_iload C dX5_wetBehind_37 rfl ?_
      exact r_iret C dX5_wetBehind_39 rfl
    · refine r_aload_n C dX5_wetBehind_13 rfl rfl ?_
      refine r_iload_n C dX5_wetBehind_14 rfl rfl ?_
      refine r_iload C dX5_wetBehind_15 rfl ?_
      refine r_aload_n C dX5_wetBehind_17 rfl rfl ?_
      refine r_iload_n C dX5_wetBehind_18 rfl rfl ?_
      refine r_iload C dX5_wetBehind_19 rfl ?_
      refine r_iadd C dX5_wetBehind_21 ?_
      refine r_iconst (v := 0) C dX5_wetBehind_22 rfl ?_
      refine r_bd fun r2 h3 => ?_
      refine r_callV (As := [.int (x2 + x5), .int (0 : Int32)]) (st := [.int x4, .int x1, .ref th]) C (mc_X5_windOf hk h3) cv_X5_332 hk rfl (Nat.le_of_ble_eq_true rfl) (Nat.le_of_ble_eq_true rfl) rfl (Nat.le_of_ble_eq_true rfl) dX5_wetBehind_23 ?_
      refine r_bd fun r4 h5 => ?_
      refine r_callV (As := [.int x1, .int x4, .int r2]) (st := []) C (mc_X5_driedOf hk h5) cv_X5_340 hk rfl (Nat.le_of_ble_eq_true rfl) (Nat.le_of_ble_eq_true rfl) rfl (Nat.le_of_ble_eq_true rfl) dX5_wetBehind_26 ?_
      refine r_istore (ls' := [some (.ref th), some (.int x1), some (.int x2), some (.int x3), some (.int r4.1), some (.int x5)]) C dX5_wetBehind_29 (Nat.le_of_ble_eq_true rfl) rfl rfl ?_
      refine r_iinc (v := 1) (ls' := [some (.ref th), some (.int x1), some (.int x2), some (.int x3), some (.int r4.1), some (.int (x5 + (1 : Int32)))]) C dX5_wetBehind_31 rfl rfl (Nat.le_of_ble_eq_true rfl) rfl rfl ?_
      refine r_goto (tgt := 7) C dX5_wetBehind_34 (by decide) ?_
      exact ih x1 x2 x3 r4.1 (x5 + (1 : Int32)) r4.2
def fX5_wetBehind (th : Nat) (x1 : Int32) (x2 : Int32) (x3 : Int32) (P : mm_P) : Option (Int32 × mm_P) :=
  fX5_wetBehind_b7 th mm_NF x1 x2 x3 (9 : Int32) (0 : Int32) P
set_option maxHeartbeats 4000000 in
theorem mc_X5_wetBehind {l : Launch} {K : mm_K} {P : mm_P} {th : Nat} {x1 : Int32} {x2 : Int32} {x3 : Int32} {nx sl : Nat} {r : (Int32 × mm_P)} (hk : K.1 th = 5) (h : fX5_wetBehind th x1 x2 x3 P = some r) : mm_C l yX5_wetBehind (ws_ yX5_wetBehind cX5_wetBehind 6 (some .int)) 3 70 [.ref th, .int x1, .int x2, .int x3] K P nx sl (mm_wwI K nx sl r) :=
  mm_start (ls := [some (.ref th), some (.int x1), some (.int x2), some (.int x3), none, none]) h (by decide) (Nat.le_of_ble_eq_true rfl) rfl (Nat.le_refl _) (Nat.le_refl _) rfl fun E hl9 _ _ _ C => by
  have C : mm_Cx E RX5 cX5_wetBehind 6 (some .int) 3 70 := C
  unfold fX5_wetBehind
  refine r_bipush (v := 9) C dX5_wetBehind_0 rfl ?_
  refine r_istore (ls' := [some (.ref th), some (.int x1), some (.int x2), some (.int x3), some (.int (9 : Int32)), none]) C dX5_wetBehind_2 (Nat.le_of_ble_eq_true rfl) rfl rfl ?_
  refine r_iconst (v := 0) C dX5_wetBehind_4 rfl ?_
  refine r_istore (ls' := [some (.ref th), some (.int x1), some (.int x2), some (.int x3), some (.int (9 : Int32)), some (.int (0 : Int32))]) C dX5_wetBehind_5 (Nat.le_of_ble_eq_true rfl) rfl rfl ?_
  exact wfX5_wetBehind_b7 C hk mm_NF x1 x2 x3 (9 : Int32) (0 : Int32) P
/-! startsNow -/
def fX5_startsNow_b19 (th : Nat) (k4 : Int32 → Int32 → mm_P → Option (Int32 × mm_P)) : Nat → Int32 → Int32 → Int32 → Int32 → mm_P → Option (Int32 × mm_P)
  | 0, _, _, _, _, _ => none
  | n + 1, x1, x2, x3, x4, P =>
  mm_gd (mm_in (28 : Int32) 1242) <|
  if (gA P 662 th (28 : Int32).toNatClampNeg) ≤ x4 then
  (if x3 = 0 then
  (mm_lt (x1 ||| (0 : Int32)) fun v4 =>
  k4 v4 (x2 + (1 : Int32)) P)
  else
  (mm_lt (x1 ||| (mm_shl (1 : Int32) x2)) fun v5 =>
  k4 v5 (x2 + (1 : Int32)) P))
  else
  (mm_lt ((29 : Int32) + ((3 : Int32) * x4)) fun v6 =>
  if x3 = 0 then
  (fX5_startsNow_b19 th k4 n x1 x2 (0 : Int32) (x4 + (1 : Int32)) P)
  else
  (mm_gd (mm_in v6 1242) <|
  mm_gd (mm_in (v6 + (1 : Int32)) 1242) <|
  mm_bd (fX5_wetBehind th (gA P 662 th v6.toNatClampNeg) x2 (gA P 662 th (v6 + (1 : Int32)).toNatClampNeg) P) fun r10 =>
  mm_gd (mm_in (v6 + (2 : Int32)) 1242) <|
  if r10.1 ≠ (gA r10.2 662 th (v6 + (2 : Int32)).toNatClampNeg) then
  (fX5_startsNow_b19 th k4 n x1 x2 (0 : Int32) (x4 + (1 : Int32)) r10.2)
  else
  (fX5_startsNow_b19 th k4 n x1 x2 (1 : Int32) (x4 + (1 : Int32)) r10.2)))
set_option maxHeartbeats 4000000 in
theorem wfX5_startsNow_b19 {E : mm_E} (C : mm_Cx E RX5 cX5_startsNow 6 (some .int) 4 95) {K : mm_K} {th : Nat} (hk : K.1 th = 5) {nx sl : Nat} {k4 : Int32 → Int32 → mm_P → Option (Int32 × mm_P)} (hk4 : ∀ (x1 : Int32) (x2 : Int32) (P : mm_P), mm_V E (mm_wwI K nx sl) 4 [some (.ref th), some (.int x1), some (.int x2), none, none, none] [] K P nx sl (k4 x1 x2 P)) : ∀ (n : Nat), ∀ (x1 : Int32) (x2 : Int32) (x3 : Int32) (x4 : Int32) (P : mm_P), mm_V E (mm_wwI K nx sl) 19 [some (.ref th), some (.int x1), some (.int x2), some (.int x3), some (.int x4), none] [] K P nx sl (fX5_startsNow_b19 th k4 n x1 x2 x3 x4 P) := by
  intro n
  induction n with
  | zero => intro x1 x2 x3 x4 P; exact r_none
  | succ n ih =>
    intro x1 x2 x3 x4 P
    rw [fX5_startsNow_b19]
    refine r_iload C dX5_startsNow_19 rfl ?_
    refine r_aload_n C dX5_startsNow_21 rfl rfl ?_
    refine r_getA C fl_X5_113 hk dX5_startsNow_22 ?_
    refine r_bipush (v := 28) C dX5_startsNow_25 rfl ?_
    refine r_iald C (rg_662 hk) rfl dX5_startsNow_27 fun h1 => ?_
    refine r_icmpge (tgt := 89) C dX5_startsNow_28 (by decide) (fun h2 => ?_) (fun h2 => ?_)
    · refine r_iload_n C dX5_startsNow_89 rfl rfl ?_
      refine r_iload_n C dX5_startsNow_90 rfl rfl ?_
      refine r_ifeq (tgt := 100) C dX5_startsNow_91 (by decide) (fun h3 => ?_) (fun h3 => ?_)
      · refine r_iconst (v := 0) C dX5_startsNow_100 rfl ?_
        refine r_ior C dX5_startsNow_101 ?_
        refine r_ltI fun v4 => ?_
        refine r_istore_n (ls' := [some (.ref th), some (.int v4), some (.int x2), some (.int x3), some (.int x4), none]) C dX5_startsNow_102 rfl (Nat.le_of_ble_eq_true rfl) rfl rfl ?_
        refine r_iinc (v := 1) (ls' := [some (.ref th), some (.int v4), some (.int (x2 + (1 : Int32))), some (.int x3), some (.int x4), none]) C dX5_startsNow_103 rfl rfl (Nat.le_of_ble_eq_true rfl) rfl rfl ?_
        refine r_goto (tgt := 4) C dX5_startsNow_106 (by decide) ?_
        refine r_mask [true, true, true, false, false, true] (ls' := [some (.ref th), some (.int v4), some (.int (x2 + (1 : Int32))), none, none, none]) rfl ?_
        exact hk4 v4 (x2 + (1 : Int32)) P
      · refine r_iconst (v := 1) C dX5_startsNow_94 rfl ?_
        refine r_iload_n C dX5_startsNow_95 rfl rfl ?_
        refine r_ishl C dX5_startsNow_96 ?_
        refine r_goto (tgt := 101) C dX5_startsNow_97 (by decide) ?_
        refine r_ior C dX5_startsNow_101 ?_
        refine r_ltI fun v5 => ?_
        refine r_istore_n (ls' := [some (.ref th), some (.int v5), some (.int x2), some (.int x3), some (.int x4), none]) C dX5_startsNow_102 rfl (Nat.le_of_ble_eq_true rfl) rfl rfl ?_
        refine r_iinc (v := 1) (ls' := [some (.ref th), some (.int v5), some (.int (x2 + (1 : Int32))), some (.int x3), some (.int x4), none]) C dX5_startsNow_103 rfl rfl (Nat.le_of_ble_eq_true rfl) rfl rfl ?_
        refine r_goto (tgt := 4) C dX5_startsNow_106 (by decide) ?_
        refine r_mask [true, true, true, false, false, true] (ls' := [some (.ref th), some (.int v5), some (.int (x2 + (1 : Int32))), none, none, none]) rfl ?_
        exact hk4 v5 (x2 + (1 : Int32)) P
    · refine r_bipush (v := 29) C dX5_startsNow_31 rfl ?_
      refine r_iconst (v := 3) C dX5_startsNow_33 rfl ?_
      refine r_iload C dX5_startsNow_34 rfl ?_
      refine r_imul C dX5_startsNow_36 ?_
      refine r_iadd C dX5_startsNow_37 ?_
      refine r_ltI fun v6 => ?_
      refine r_istore (ls' := [some (.ref th), some (.int x1), some (.int x2), some (.int x3), some (.int x4), some (.int v6)]) C dX5_startsNow_38 (Nat.le_of_ble_eq_true rfl) rfl rfl ?_
      refine r_iload_n C dX5_startsNow_40 rfl rfl ?_
      refine r_ifeq (tgt := 81) C dX5_startsNow_41 (by decide) (fun h7 => ?_) (fun h7 => ?_)
      · refine r_iconst (v := 0) C dX5_startsNow_81 rfl ?_
        refine r_istore_n (ls' := [some (.ref th), some (.int x1), some (.int x2), some (.int (0 : Int32)), some (.int x4), some (.int v6)]) C dX5_startsNow_82 rfl (Nat.le_of_ble_eq_true rfl) rfl rfl ?_
        refine r_iinc (v := 1) (ls' := [some (.ref th), some (.int x1), some (.int x2), some (.int (0 : Int32)), some (.int (x4 + (1 : Int32))), some (.int v6)]) C dX5_startsNow_83 rfl rfl (Nat.le_of_ble_eq_true rfl) rfl rfl ?_
        refine r_goto (tgt := 19) C dX5_startsNow_86 (by decide) ?_
        refine r_mask [true, true, true, true, true, false] (ls' := [some (.ref th), some (.int x1), some (.int x2), some (.int (0 : Int32)), some (.int (x4 + (1 : Int32))), none]) rfl ?_
        exact ih x1 x2 (0 : Int32) (x4 + (1 : Int32)) P
      · refine r_aload_n C dX5_startsNow_44 rfl rfl ?_
        refine r_aload_n C dX5_startsNow_45 rfl rfl ?_
        refine r_getA C fl_X5_113 hk dX5_startsNow_46 ?_
        refine r_iload C dX5_startsNow_49 rfl ?_
        refine r_iald C (rg_662 hk) rfl dX5_startsNow_51 fun h8 => ?_
        refine r_iload_n C dX5_startsNow_52 rfl rfl ?_
        refine r_aload_n C dX5_startsNow_53 rfl rfl ?_
        refine r_getA C fl_X5_113 hk dX5_startsNow_54 ?_
        refine r_iload C dX5_startsNow_57 rfl ?_
        refine r_iconst (v := 1) C dX5_startsNow_59 rfl ?_
        refine r_iadd C dX5_startsNow_60 ?_
        refine r_iald C (rg_662 hk) rfl dX5_startsNow_61 fun h9 => ?_
        refine r_bd fun r10 h11 => ?_
        refine r_callV (As := [.int (gA P 662 th v6.toNatClampNeg), .int x2, .int (gA P 662 th (v6 + (1 : Int32)).toNatClampNeg)]) (st := []) C (mc_X5_wetBehind hk h11) cv_X5_422 hk rfl (Nat.le_of_ble_eq_true rfl) (Nat.le_of_ble_eq_true rfl) rfl (Nat.le_of_ble_eq_true rfl) dX5_startsNow_62 ?_
        refine r_aload_n C dX5_startsNow_65 rfl rfl ?_
        refine r_getA C fl_X5_113 hk dX5_startsNow_66 ?_
        refine r_iload C dX5_startsNow_69 rfl ?_
        refine r_iconst (v := 2) C dX5_startsNow_71 rfl ?_
        refine r_iadd C dX5_startsNow_72 ?_
        refine r_iald C (rg_662 hk) rfl dX5_startsNow_73 fun h12 => ?_
        refine r_icmpne (tgt := 81) C dX5_startsNow_74 (by decide) (fun h13 => ?_) (fun h13 => ?_)
        · refine r_iconst (v := 0) C dX5_startsNow_81 rfl ?_
          refine r_istore_n (ls' := [some (.ref th), some (.int x1), some (.int x2), some (.int (0 : Int32)), some (.int x4), some (.int v6)]) C dX5_startsNow_82 rfl (Nat.le_of_ble_eq_true rfl) rfl rfl ?_
          refine r_iinc (v := 1) (ls' := [some (.ref th), some (.int x1), some (.int x2), some (.int (0 : Int32)), some (.int (x4 + (1 : Int32))), some (.int v6)]) C dX5_startsNow_83 rfl rfl (Nat.le_of_ble_eq_true rfl) rfl rfl ?_
          refine r_goto (tgt := 19) C dX5_startsNow_86 (by decide) ?_
          refine r_mask [true, true, true, true, true, false] (ls' := [some (.ref th), some (.int x1), some (.int x2), some (.int (0 : Int32)), some (.int (x4 + (1 : Int32))), none]) rfl ?_
          exact ih x1 x2 (0 : Int32) (x4 + (1 : Int32)) r10.2
        · refine r_iconst (v := 1) C dX5_startsNow_77 rfl ?_
          refine r_goto (tgt := 82) C dX5_startsNow_78 (by decide) ?_
          refine r_istore_n (ls' := [some (.ref th), some (.int x1), some (.int x2), some (.int (1 : Int32)), some (.int x4), some (.int v6)]) C dX5_startsNow_82 rfl (Nat.le_of_ble_eq_true rfl) rfl rfl ?_
          refine r_iinc (v := 1) (ls' := [some (.ref th), some (.int x1), some (.int x2), some (.int (1 : Int32)), some (.int (x4 + (1 : Int32))), some (.int v6)]) C dX5_startsNow_83 rfl rfl (Nat.le_of_ble_eq_true rfl) rfl rfl ?_
          refine r_goto (tgt := 19) C dX5_startsNow_86 (by decide) ?_
          refine r_mask [true, true, true, true, true, false] (ls' := [some (.ref th), some (.int x1), some (.int x2), some (.int (1 : Int32)), some (.int (x4 + (1 : Int32))), none]) rfl ?_
          exact ih x1 x2 (1 : Int32) (x4 + (1 : Int32)) r10.2
def fX5_startsNow_b4 (th : Nat)  : Nat → Int32 → Int32 → mm_P → Option (Int32 × mm_P)
  | 0, _, _, _ => none
  | n + 1, x1, x2, P =>
  mm_gd (mm_in (2 : Int32) 200) <|
  if (gA P 650 th (2 : Int32).toNatClampNeg) ≤ x2 then
  (some (x1, P))
  else
  (fX5_startsNow_b19 th (fX5_startsNow_b4 th n) mm_NF x1 x2 (1 : Int32) (0 : Int32) P)
set_option maxHeartbeats 4000000 in
theorem wfX5_startsNow_b4 {E : mm_E} (C : mm_Cx E RX5 cX5_startsNow 6 (some .int) 4 95) {K : mm_K} {th : Nat} (hk : K.1 th = 5) {nx sl : Nat} : ∀ (n : Nat), ∀ (x1 : Int32) (x2 : Int32) (P : mm_P), mm_V E (mm_wwI K nx sl) 4 [some (.ref th), some (.int x1), some (.int x2), none, none, none] [] K P nx sl (fX5_startsNow_b4 th n x1 x2 P) := by
  intro n
  induction n with
  | zero => intro x1 x2 P; exact r_none
  | succ n ih =>
    intro x1 x2 P
    rw [fX5_startsNow_b4]
    refine r_iload_n C dX5_startsNow_4 rfl rfl ?_
    refine r_aload_n C dX5_startsNow_5 rfl rfl ?_
    refine r_getA C fl_X5_89 hk dX5_startsNow_6 ?_
    refine r_iconst (v := 2) C dX5_startsNow_9 rfl ?_
    refine r_iald C (rg_650 hk) rfl dX5_startsNow_10 fun h1 => ?_
    refine r_icmpge (tgt := 109) C dX5_startsNow_11 (by decide) (fun h2 => ?_) (fun h2 => ?_)
    · refine r_iload_n C dX5_startsNow_109 rfl rfl ?_
      exact r_iret C dX5_startsNow_110 rfl
    · refine r_iconst (v := 1) C dX5_startsNow_14 rfl ?_
      refine r_istore_n (ls' := [some (.ref th), some (.int x1), some (.int x2), some (.int (1 : Int32)), none, none]) C dX5_startsNow_15 rfl (Nat.le_of_ble_eq_true rfl) rfl rfl ?_
      refine r_iconst (v := 0) C dX5_startsNow_16 rfl ?_
      refine r_istore (ls' := [some (.ref th), some (.int x1), some (.int x2), some (.int (1 : Int32)), some (.int (0 : Int32)), none]) C dX5_startsNow_17 (Nat.le_of_ble_eq_true rfl) rfl rfl ?_
      exact wfX5_startsNow_b19 C hk ih mm_NF x1 x2 (1 : Int32) (0 : Int32) P
def fX5_startsNow (th : Nat)  (P : mm_P) : Option (Int32 × mm_P) :=
  fX5_startsNow_b4 th mm_NF (0 : Int32) (0 : Int32) P
set_option maxHeartbeats 4000000 in
theorem mc_X5_startsNow {l : Launch} {K : mm_K} {P : mm_P} {th : Nat}  {nx sl : Nat} {r : (Int32 × mm_P)} (hk : K.1 th = 5) (h : fX5_startsNow th P = some r) : mm_C l yX5_startsNow (ws_ yX5_startsNow cX5_startsNow 6 (some .int)) 4 95 [.ref th] K P nx sl (mm_wwI K nx sl r) :=
  mm_start (ls := [some (.ref th), none, none, none, none, none]) h (by decide) (Nat.le_of_ble_eq_true rfl) rfl (Nat.le_refl _) (Nat.le_refl _) rfl fun E hl9 _ _ _ C => by
  have C : mm_Cx E RX5 cX5_startsNow 6 (some .int) 4 95 := C
  unfold fX5_startsNow
  refine r_iconst (v := 0) C dX5_startsNow_0 rfl ?_
  refine r_istore_n (ls' := [some (.ref th), some (.int (0 : Int32)), none, none, none, none]) C dX5_startsNow_1 rfl (Nat.le_of_ble_eq_true rfl) rfl rfl ?_
  refine r_iconst (v := 0) C dX5_startsNow_2 rfl ?_
  refine r_istore_n (ls' := [some (.ref th), some (.int (0 : Int32)), some (.int (0 : Int32)), none, none, none]) C dX5_startsNow_3 rfl (Nat.le_of_ble_eq_true rfl) rfl rfl ?_
  exact wfX5_startsNow_b4 C hk mm_NF (0 : Int32) (0 : Int32) P
/-! starts_2 -/
def fX5_starts_2 (th : Nat)  (P : mm_P) : Option (Int32 × mm_P) :=
  mm_lt (sI P 640 th (0 : Int32)) fun P1 =>
  mm_bd (fX5_startsNow th P1) fun r2 =>
  some (r2.1, r2.2)
set_option maxHeartbeats 4000000 in
theorem mc_X5_starts_2 {l : Launch} {K : mm_K} {P : mm_P} {th : Nat}  {nx sl : Nat} {r : (Int32 × mm_P)} (hk : K.1 th = 5) (h : fX5_starts_2 th P = some r) : mm_C l yX5_starts_2 (ws_ yX5_starts_2 cX5_starts_2 1 (some .int)) 5 120 [.ref th] K P nx sl (mm_wwI K nx sl r) :=
  mm_start (ls := [some (.ref th)]) h (by decide) (Nat.le_of_ble_eq_true rfl) rfl (Nat.le_refl _) (Nat.le_refl _) rfl fun E hl9 _ _ _ C => by
  have C : mm_Cx E RX5 cX5_starts_2 1 (some .int) 5 120 := C
  unfold fX5_starts_2
  refine r_aload_n C dX5_starts_2_0 rfl rfl ?_
  refine r_iconst (v := 0) C dX5_starts_2_1 rfl ?_
  refine r_putI (code := 640) C fl_X5_1 hk rfl rfl dX5_starts_2_2 ?_
  refine r_ltP fun P1 => ?_
  refine r_aload_n C dX5_starts_2_5 rfl rfl ?_
  refine r_bd fun r2 h3 => ?_
  refine r_callV (As := []) (st := []) C (mc_X5_startsNow hk h3) cv_X5_425 hk rfl (Nat.le_of_ble_eq_true rfl) (Nat.le_of_ble_eq_true rfl) rfl (Nat.le_of_ble_eq_true rfl) dX5_starts_2_6 ?_
  exact r_iret C dX5_starts_2_9 rfl
/-! ask -/
def fX5_ask_b151 (th : Nat) (k31 : Int32 → Int32 → Int32 → Int32 → Int32 → mm_P → Option (Int32 × mm_P)) (x1 : Int32) (x2 : Int32) (x4 : Int32) (x5 : Int32) (x6 : Int32) (s0 : Int32) (P : mm_P) : Option (Int32 × mm_P) :=
  if x4 ≤ x6 then
  (k31 x1 x2 s0 x4 (x5 + (1 : Int32)) P)
  else
  (k31 x1 x2 s0 x6 (x5 + (1 : Int32)) P)
set_option maxHeartbeats 4000000 in
theorem wfX5_ask_b151 {E : mm_E} (C : mm_Cx E RX5 cX5_ask 9 (some .int) 5 120) {K : mm_K} {th : Nat} (hk : K.1 th = 5) {nx sl : Nat} {k31 : Int32 → Int32 → Int32 → Int32 → Int32 → mm_P → Option (Int32 × mm_P)} (hk31 : ∀ (x1 : Int32) (x2 : Int32) (x3 : Int32) (x4 : Int32) (x5 : Int32) (P : mm_P), mm_V E (mm_wwI K nx sl) 31 [some (.ref th), some (.int x1), some (.int x2), some (.int x3), some (.int x4), some (.int x5), none, none, none] [] K P nx sl (k31 x1 x2 x3 x4 x5 P)) (x1 : Int32) (x2 : Int32) (x4 : Int32) (x5 : Int32) (x6 : Int32) (s0 : Int32) (P : mm_P) : mm_V E (mm_wwI K nx sl) 151 [some (.ref th), some (.int x1), some (.int x2), none, some (.int x4), some (.int x5), some (.int x6), none, none] [.int s0] K P nx sl (fX5_ask_b151 th k31 x1 x2 x4 x5 x6 s0 P) := by
  unfold fX5_ask_b151
  refine r_istore_n (ls' := [some (.ref th), some (.int x1), some (.int x2), some (.int s0), some (.int x4), some (.int x5), some (.int x6), none, none]) C dX5_ask_151 rfl (Nat.le_of_ble_eq_true rfl) rfl rfl ?_
  refine r_iload C dX5_ask_152 rfl ?_
  refine r_iload C dX5_ask_154 rfl ?_
  refine r_icmpge (tgt := 164) C dX5_ask_156 (by decide) (fun h1 => ?_) (fun h1 => ?_)
  · refine r_iload C dX5_ask_164 rfl ?_
    refine r_istore (ls' := [some (.ref th), some (.int x1), some (.int x2), some (.int s0), some (.int x4), some (.int x5), some (.int x6), none, none]) C dX5_ask_166 (Nat.le_of_ble_eq_true rfl) rfl rfl ?_
    refine r_iinc (v := 1) (ls' := [some (.ref th), some (.int x1), some (.int x2), some (.int s0), some (.int x4), some (.int (x5 + (1 : Int32))), some (.int x6), none, none]) C dX5_ask_168 rfl rfl (Nat.le_of_ble_eq_true rfl) rfl rfl ?_
    refine r_goto (tgt := 31) C dX5_ask_171 (by decide) ?_
    refine r_mask [true, true, true, true, true, true, false, true, true] (ls' := [some (.ref th), some (.int x1), some (.int x2), some (.int s0), some (.int x4), some (.int (x5 + (1 : Int32))), none, none, none]) rfl ?_
    exact hk31 x1 x2 s0 x4 (x5 + (1 : Int32)) P
  · refine r_iload C dX5_ask_159 rfl ?_
    refine r_goto (tgt := 166) C dX5_ask_161 (by decide) ?_
    refine r_istore (ls' := [some (.ref th), some (.int x1), some (.int x2), some (.int s0), some (.int x6), some (.int x5), some (.int x6), none, none]) C dX5_ask_166 (Nat.le_of_ble_eq_true rfl) rfl rfl ?_
    refine r_iinc (v := 1) (ls' := [some (.ref th), some (.int x1), some (.int x2), some (.int s0), some (.int x6), some (.int (x5 + (1 : Int32))), some (.int x6), none, none]) C dX5_ask_168 rfl rfl (Nat.le_of_ble_eq_true rfl) rfl rfl ?_
    refine r_goto (tgt := 31) C dX5_ask_171 (by decide) ?_
    refine r_mask [true, true, true, true, true, true, false, true, true] (ls' := [some (.ref th), some (.int x1), some (.int x2), some (.int s0), some (.int x6), some (.int (x5 + (1 : Int32))), none, none, none]) rfl ?_
    exact hk31 x1 x2 s0 x6 (x5 + (1 : Int32)) P
def fX5_ask_b68 (th : Nat) (k31 : Int32 → Int32 → Int32 → Int32 → Int32 → mm_P → Option (Int32 × mm_P)) : Nat → Int32 → Int32 → Int32 → Int32 → Int32 → Int32 → Int32 → mm_P → Option (Int32 × mm_P)
  | 0, _, _, _, _, _, _, _, _ => none
  | n + 1, x1, x2, x3, x4, x5, x6, x7, P =>
  mm_gd (mm_in (2 : Int32) 200) <|
  if (gA P 650 th (2 : Int32).toNatClampNeg) ≤ x7 then
  (if x4 ≤ x6 then
  (fX5_ask_b151 th k31 x1 x2 x4 x5 x6 x3 P)
  else
  (fX5_ask_b151 th k31 x1 x2 x4 x5 x6 x5 P))
  else
  (mm_bd (fX5_wetBehind th x1 x7 x5 P) fun r4 =>
  mm_gd (mm_in r4.1 10) <|
  mm_gd (mm_in r4.1 10) <|
  mm_lt (sA r4.2 676 th r4.1.toNatClampNeg ((gA r4.2 676 th r4.1.toNatClampNeg) + ((mm_shr x2 x7) &&& (1 : Int32)))) fun P8 =>
  mm_gd (mm_in r4.1 10) <|
  if (gA P8 676 th r4.1.toNatClampNeg) ≤ x6 then
  (fX5_ask_b68 th k31 n x1 x2 x3 x4 x5 x6 (x7 + (1 : Int32)) P8)
  else
  (mm_gd (mm_in r4.1 10) <|
  mm_lt (gA P8 676 th r4.1.toNatClampNeg) fun v12 =>
  fX5_ask_b68 th k31 n x1 x2 x3 x4 x5 v12 (x7 + (1 : Int32)) P8))
set_option maxHeartbeats 4000000 in
theorem wfX5_ask_b68 {E : mm_E} (C : mm_Cx E RX5 cX5_ask 9 (some .int) 5 120) {K : mm_K} {th : Nat} (hk : K.1 th = 5) {nx sl : Nat} {k31 : Int32 → Int32 → Int32 → Int32 → Int32 → mm_P → Option (Int32 × mm_P)} (hk31 : ∀ (x1 : Int32) (x2 : Int32) (x3 : Int32) (x4 : Int32) (x5 : Int32) (P : mm_P), mm_V E (mm_wwI K nx sl) 31 [some (.ref th), some (.int x1), some (.int x2), some (.int x3), some (.int x4), some (.int x5), none, none, none] [] K P nx sl (k31 x1 x2 x3 x4 x5 P)) : ∀ (n : Nat), ∀ (x1 : Int32) (x2 : Int32) (x3 : Int32) (x4 : Int32) (x5 : Int32) (x6 : Int32) (x7 : Int32) (P : mm_P), mm_V E (mm_wwI K nx sl) 68 [some (.ref th), some (.int x1), some (.int x2), some (.int x3), some (.int x4), some (.int x5), some (.int x6), some (.int x7), none] [] K P nx sl (fX5_ask_b68 th k31 n x1 x2 x3 x4 x5 x6 x7 P) := by
  intro n
  induction n with
  | zero => intro x1 x2 x3 x4 x5 x6 x7 P; exact r_none
  | succ n ih =>
    intro x1 x2 x3 x4 x5 x6 x7 P
    rw [fX5_ask_b68]
    refine r_iload C dX5_ask_68 rfl ?_
    refine r_aload_n C dX5_ask_70 rfl rfl ?_
    refine r_getA C fl_X5_89 hk dX5_ask_71 ?_
    refine r_iconst (v := 2) C dX5_ask_74 rfl ?_
    refine r_iald C (rg_650 hk) rfl dX5_ask_75 fun h1 => ?_
    refine r_icmpge (tgt := 138) C dX5_ask_76 (by decide) (fun h2 => ?_) (fun h2 => ?_)
    · refine r_iload C dX5_ask_138 rfl ?_
      refine r_iload C dX5_ask_140 rfl ?_
      refine r_icmpge (tgt := 150) C dX5_ask_142 (by decide) (fun h3 => ?_) (fun h3 => ?_)
      · refine r_iload_n C dX5_ask_150 rfl rfl ?_
        refine r_mask [true, true, true, false, true, true, true, false, true] (ls' := [some (.ref th), some (.int x1), some (.int x2), none, some (.int x4), some (.int x5), some (.int x6), none, none]) rfl ?_
        exact wfX5_ask_b151 C hk hk31 x1 x2 x4 x5 x6 x3 P
      · refine r_iload C dX5_ask_145 rfl ?_
        refine r_goto (tgt := 151) C dX5_ask_147 (by decide) ?_
        refine r_mask [true, true, true, false, true, true, true, false, true] (ls' := [some (.ref th), some (.int x1), some (.int x2), none, some (.int x4), some (.int x5), some (.int x6), none, none]) rfl ?_
        exact wfX5_ask_b151 C hk hk31 x1 x2 x4 x5 x6 x5 P
    · refine r_aload_n C dX5_ask_79 rfl rfl ?_
      refine r_iload_n C dX5_ask_80 rfl rfl ?_
      refine r_iload C dX5_ask_81 rfl ?_
      refine r_iload C dX5_ask_83 rfl ?_
      refine r_bd fun r4 h5 => ?_
      refine r_callV (As := [.int x1, .int x7, .int x5]) (st := []) C (mc_X5_wetBehind hk h5) cv_X5_422 hk rfl (Nat.le_of_ble_eq_true rfl) (Nat.le_of_ble_eq_true rfl) rfl (Nat.le_of_ble_eq_true rfl) dX5_ask_85 ?_
      refine r_istore (ls' := [some (.ref th), some (.int x1), some (.int x2), some (.int x3), some (.int x4), some (.int x5), some (.int x6), some (.int x7), some (.int r4.1)]) C dX5_ask_88 (Nat.le_of_ble_eq_true rfl) rfl rfl ?_
      refine r_aload_n C dX5_ask_90 rfl rfl ?_
      refine r_getA C fl_X5_141 hk dX5_ask_91 ?_
      refine r_iload C dX5_ask_94 rfl ?_
      refine r_dup2_11 C dX5_ask_96 rfl rfl ?_
      refine r_iald C (rg_676 hk) rfl dX5_ask_97 fun h6 => ?_
      refine r_iload_n C dX5_ask_98 rfl rfl ?_
      refine r_iload C dX5_ask_99 rfl ?_
      refine r_ishr C dX5_ask_101 ?_
      refine r_iconst (v := 1) C dX5_ask_102 rfl ?_
      refine r_iand C dX5_ask_103 ?_
      refine r_iadd C dX5_ask_104 ?_
      refine r_iast C (rg_676 hk) (mm_ro_of (k := 5) hk rfl) rfl dX5_ask_105 fun h7 => ?_
      refine r_ltP fun P8 => ?_
      refine r_aload_n C dX5_ask_106 rfl rfl ?_
      refine r_getA C fl_X5_141 hk dX5_ask_107 ?_
      refine r_iload C dX5_ask_110 rfl ?_
      refine r_iald C (rg_676 hk) rfl dX5_ask_112 fun h9 => ?_
      refine r_iload C dX5_ask_113 rfl ?_
      refine r_icmple (tgt := 128) C dX5_ask_115 (by decide) (fun h10 => ?_) (fun h10 => ?_)
      · refine r_iload C dX5_ask_128 rfl ?_
        refine r_istore (ls' := [some (.ref th), some (.int x1), some (.int x2), some (.int x3), some (.int x4), some (.int x5), some (.int x6), some (.int x7), some (.int r4.1)]) C dX5_ask_130 (Nat.le_of_ble_eq_true rfl) rfl rfl ?_
        refine r_iinc (v := 1) (ls' := [some (.ref th), some (.int x1), some (.int x2), some (.int x3), some (.int x4), some (.int x5), some (.int x6), some (.int (x7 + (1 : Int32))), some (.int r4.1)]) C dX5_ask_132 rfl rfl (Nat.le_of_ble_eq_true rfl) rfl rfl ?_
        refine r_goto (tgt := 68) C dX5_ask_135 (by decide) ?_
        refine r_mask [true, true, true, true, true, true, true, true, false] (ls' := [some (.ref th), some (.int x1), some (.int x2), some (.int x3), some (.int x4), some (.int x5), some (.int x6), some (.int (x7 + (1 : Int32))), none]) rfl ?_
        exact ih x1 x2 x3 x4 x5 x6 (x7 + (1 : Int32)) P8
      · refine r_aload_n C dX5_ask_118 rfl rfl ?_
        refine r_getA C fl_X5_141 hk dX5_ask_119 ?_
        refine r_iload C dX5_ask_122 rfl ?_
        refine r_iald C (rg_676 hk) rfl dX5_ask_124 fun h11 => ?_
        refine r_goto (tgt := 130) C dX5_ask_125 (by decide) ?_
        refine r_ltI fun v12 => ?_
        refine r_istore (ls' := [some (.ref th), some (.int x1), some (.int x2), some (.int x3), some (.int x4), some (.int x5), some (.int v12), some (.int x7), some (.int r4.1)]) C dX5_ask_130 (Nat.le_of_ble_eq_true rfl) rfl rfl ?_
        refine r_iinc (v := 1) (ls' := [some (.ref th), some (.int x1), some (.int x2), some (.int x3), some (.int x4), some (.int x5), some (.int v12), some (.int (x7 + (1 : Int32))), some (.int r4.1)]) C dX5_ask_132 rfl rfl (Nat.le_of_ble_eq_true rfl) rfl rfl ?_
        refine r_goto (tgt := 68) C dX5_ask_135 (by decide) ?_
        refine r_mask [true, true, true, true, true, true, true, true, false] (ls' := [some (.ref th), some (.int x1), some (.int x2), some (.int x3), some (.int x4), some (.int x5), some (.int v12), some (.int (x7 + (1 : Int32))), none]) rfl ?_
        exact ih x1 x2 x3 x4 x5 v12 (x7 + (1 : Int32)) P8
def fX5_ask_b41 (th : Nat) (k31 : Int32 → Int32 → Int32 → Int32 → Int32 → mm_P → Option (Int32 × mm_P)) : Nat → Int32 → Int32 → Int32 → Int32 → Int32 → Int32 → mm_P → Option (Int32 × mm_P)
  | 0, _, _, _, _, _, _, _ => none
  | n + 1, x1, x2, x3, x4, x5, x6, P =>
  if (10 : Int32) ≤ x6 then
  (fX5_ask_b68 th k31 mm_NF x1 x2 x3 x4 x5 (0 : Int32) (0 : Int32) P)
  else
  (mm_gd (mm_in x6 10) <|
  mm_lt (sA P 676 th x6.toNatClampNeg (0 : Int32)) fun P3 =>
  fX5_ask_b41 th k31 n x1 x2 x3 x4 x5 (x6 + (1 : Int32)) P3)
set_option maxHeartbeats 4000000 in
theorem wfX5_ask_b41 {E : mm_E} (C : mm_Cx E RX5 cX5_ask 9 (some .int) 5 120) {K : mm_K} {th : Nat} (hk : K.1 th = 5) {nx sl : Nat} {k31 : Int32 → Int32 → Int32 → Int32 → Int32 → mm_P → Option (Int32 × mm_P)} (hk31 : ∀ (x1 : Int32) (x2 : Int32) (x3 : Int32) (x4 : Int32) (x5 : Int32) (P : mm_P), mm_V E (mm_wwI K nx sl) 31 [some (.ref th), some (.int x1), some (.int x2), some (.int x3), some (.int x4), some (.int x5), none, none, none] [] K P nx sl (k31 x1 x2 x3 x4 x5 P)) : ∀ (n : Nat), ∀ (x1 : Int32) (x2 : Int32) (x3 : Int32) (x4 : Int32) (x5 : Int32) (x6 : Int32) (P : mm_P), mm_V E (mm_wwI K nx sl) 41 [some (.ref th), some (.int x1), some (.int x2), some (.int x3), some (.int x4), some (.int x5), some (.int x6), none, none] [] K P nx sl (fX5_ask_b41 th k31 n x1 x2 x3 x4 x5 x6 P) := by
  intro n
  induction n with
  | zero => intro x1 x2 x3 x4 x5 x6 P; exact r_none
  | succ n ih =>
    intro x1 x2 x3 x4 x5 x6 P
    rw [fX5_ask_b41]
    refine r_iload C dX5_ask_41 rfl ?_
    refine r_bipush (v := 10) C dX5_ask_43 rfl ?_
    refine r_icmpge (tgt := 62) C dX5_ask_45 (by decide) (fun h1 => ?_) (fun h1 => ?_)
    · refine r_iconst (v := 0) C dX5_ask_62 rfl ?_
      refine r_istore (ls' := [some (.ref th), some (.int x1), some (.int x2), some (.int x3), some (.int x4), some (.int x5), some (.int (0 : Int32)), none, none]) C dX5_ask_63 (Nat.le_of_ble_eq_true rfl) rfl rfl ?_
      refine r_iconst (v := 0) C dX5_ask_65 rfl ?_
      refine r_istore (ls' := [some (.ref th), some (.int x1), some (.int x2), some (.int x3), some (.int x4), some (.int x5), some (.int (0 : Int32)), some (.int (0 : Int32)), none]) C dX5_ask_66 (Nat.le_of_ble_eq_true rfl) rfl rfl ?_
      exact wfX5_ask_b68 C hk hk31 mm_NF x1 x2 x3 x4 x5 (0 : Int32) (0 : Int32) P
    · refine r_aload_n C dX5_ask_48 rfl rfl ?_
      refine r_getA C fl_X5_141 hk dX5_ask_49 ?_
      refine r_iload C dX5_ask_52 rfl ?_
      refine r_iconst (v := 0) C dX5_ask_54 rfl ?_
      refine r_iast C (rg_676 hk) (mm_ro_of (k := 5) hk rfl) rfl dX5_ask_55 fun h2 => ?_
      refine r_ltP fun P3 => ?_
      refine r_iinc (v := 1) (ls' := [some (.ref th), some (.int x1), some (.int x2), some (.int x3), some (.int x4), some (.int x5), some (.int (x6 + (1 : Int32))), none, none]) C dX5_ask_56 rfl rfl (Nat.le_of_ble_eq_true rfl) rfl rfl ?_
      refine r_goto (tgt := 41) C dX5_ask_59 (by decide) ?_
      exact ih x1 x2 x3 x4 x5 (x6 + (1 : Int32)) P3
def fX5_ask_b31 (th : Nat)  : Nat → Int32 → Int32 → Int32 → Int32 → Int32 → mm_P → Option (Int32 × mm_P)
  | 0, _, _, _, _, _, _ => none
  | n + 1, x1, x2, x3, x4, x5, P =>
  if (12 : Int32) < x5 then
  (some (x3, P))
  else
  (fX5_ask_b41 th (fX5_ask_b31 th n) mm_NF x1 x2 x3 x4 x5 (0 : Int32) P)
set_option maxHeartbeats 4000000 in
theorem wfX5_ask_b31 {E : mm_E} (C : mm_Cx E RX5 cX5_ask 9 (some .int) 5 120) {K : mm_K} {th : Nat} (hk : K.1 th = 5) {nx sl : Nat} : ∀ (n : Nat), ∀ (x1 : Int32) (x2 : Int32) (x3 : Int32) (x4 : Int32) (x5 : Int32) (P : mm_P), mm_V E (mm_wwI K nx sl) 31 [some (.ref th), some (.int x1), some (.int x2), some (.int x3), some (.int x4), some (.int x5), none, none, none] [] K P nx sl (fX5_ask_b31 th n x1 x2 x3 x4 x5 P) := by
  intro n
  induction n with
  | zero => intro x1 x2 x3 x4 x5 P; exact r_none
  | succ n ih =>
    intro x1 x2 x3 x4 x5 P
    rw [fX5_ask_b31]
    refine r_iload C dX5_ask_31 rfl ?_
    refine r_bipush (v := 12) C dX5_ask_33 rfl ?_
    refine r_icmpgt (tgt := 174) C dX5_ask_35 (by decide) (fun h1 => ?_) (fun h1 => ?_)
    · refine r_iload_n C dX5_ask_174 rfl rfl ?_
      exact r_iret C dX5_ask_175 rfl
    · refine r_iconst (v := 0) C dX5_ask_38 rfl ?_
      refine r_istore (ls' := [some (.ref th), some (.int x1), some (.int x2), some (.int x3), some (.int x4), some (.int x5), some (.int (0 : Int32)), none, none]) C dX5_ask_39 (Nat.le_of_ble_eq_true rfl) rfl rfl ?_
      exact wfX5_ask_b41 C hk ih mm_NF x1 x2 x3 x4 x5 (0 : Int32) P
def fX5_ask (th : Nat) (x1 : Int32) (P : mm_P) : Option (Int32 × mm_P) :=
  mm_lt (sI P 640 th (0 : Int32)) fun P1 =>
  mm_bd (fX5_isCloth th P1 x1) fun r2 =>
  if r2 ≠ 0 then
  (mm_bd (fX5_startsNow th P1) fun r5 =>
  mm_bd (fX5_bits r5.1) fun r7 =>
  fX5_ask_b31 th mm_NF x1 r5.1 (-1 : Int32) r7 (0 : Int32) r5.2)
  else
  (some ((-1 : Int32), P1))
set_option maxHeartbeats 4000000 in
theorem mc_X5_ask {l : Launch} {K : mm_K} {P : mm_P} {th : Nat} {x1 : Int32} {nx sl : Nat} {r : (Int32 × mm_P)} (hk : K.1 th = 5) (h : fX5_ask th x1 P = some r) : mm_C l yX5_ask (ws_ yX5_ask cX5_ask 9 (some .int)) 5 120 [.ref th, .int x1] K P nx sl (mm_wwI K nx sl r) :=
  mm_start (ls := [some (.ref th), some (.int x1), none, none, none, none, none, none, none]) h (by decide) (Nat.le_of_ble_eq_true rfl) rfl (Nat.le_refl _) (Nat.le_refl _) rfl fun E hl9 _ _ _ C => by
  have C : mm_Cx E RX5 cX5_ask 9 (some .int) 5 120 := C
  unfold fX5_ask
  refine r_aload_n C dX5_ask_0 rfl rfl ?_
  refine r_iconst (v := 0) C dX5_ask_1 rfl ?_
  refine r_putI (code := 640) C fl_X5_1 hk rfl rfl dX5_ask_2 ?_
  refine r_ltP fun P1 => ?_
  refine r_aload_n C dX5_ask_5 rfl rfl ?_
  refine r_iload_n C dX5_ask_6 rfl rfl ?_
  refine r_bd fun r2 h3 => ?_
  refine r_callV (As := [.int x1]) (st := []) C (mc_X5_isCloth hk h3) cv_X5_346 hk rfl (Nat.le_of_ble_eq_true rfl) (Nat.le_of_ble_eq_true rfl) rfl (Nat.le_of_ble_eq_true rfl) dX5_ask_7 ?_
  refine r_ifne (tgt := 15) C dX5_ask_10 (by decide) (fun h4 => ?_) (fun h4 => ?_)
  · refine r_aload_n C dX5_ask_15 rfl rfl ?_
    refine r_bd fun r5 h6 => ?_
    refine r_callV (As := []) (st := []) C (mc_X5_startsNow hk h6) cv_X5_425 hk rfl (Nat.le_of_ble_eq_true rfl) (Nat.le_of_ble_eq_true rfl) rfl (Nat.le_of_ble_eq_true rfl) dX5_ask_16 ?_
    refine r_istore_n (ls' := [some (.ref th), some (.int x1), some (.int r5.1), none, none, none, none, none, none]) C dX5_ask_19 rfl (Nat.le_of_ble_eq_true rfl) rfl rfl ?_
    refine r_iconst (v := -1) C dX5_ask_20 rfl ?_
    refine r_istore_n (ls' := [some (.ref th), some (.int x1), some (.int r5.1), some (.int (-1 : Int32)), none, none, none, none, none]) C dX5_ask_21 rfl (Nat.le_of_ble_eq_true rfl) rfl rfl ?_
    refine r_iload_n C dX5_ask_22 rfl rfl ?_
    refine r_bd fun r7 h8 => ?_
    refine r_callS (As := [.int r5.1]) (st := []) C (mc_X5_bits h8) cv_X5_298  rfl (Nat.le_of_ble_eq_true rfl) (Nat.le_of_ble_eq_true rfl) rfl (Nat.le_of_ble_eq_true rfl) dX5_ask_23 ?_
    refine r_istore (ls' := [some (.ref th), some (.int x1), some (.int r5.1), some (.int (-1 : Int32)), some (.int r7), none, none, none, none]) C dX5_ask_26 (Nat.le_of_ble_eq_true rfl) rfl rfl ?_
    refine r_iconst (v := 0) C dX5_ask_28 rfl ?_
    refine r_istore (ls' := [some (.ref th), some (.int x1), some (.int r5.1), some (.int (-1 : Int32)), some (.int r7), some (.int (0 : Int32)), none, none, none]) C dX5_ask_29 (Nat.le_of_ble_eq_true rfl) rfl rfl ?_
    exact wfX5_ask_b31 C hk mm_NF x1 r5.1 (-1 : Int32) r7 (0 : Int32) r5.2
  · refine r_iconst (v := -1) C dX5_ask_13 rfl ?_
    exact r_iret C dX5_ask_14 rfl
/-! worthBehind -/
def fX5_worthBehind_b28 (th : Nat)  : Nat → Int32 → Int32 → mm_P → Option (Int32 × mm_P)
  | 0, _, _, _ => none
  | n + 1, x2, x3, P =>
  if x2 ≤ x3 then
  (mm_bd (fX5_lawsOf th P (1134 : Int32)) fun r2 =>
  mm_bd (fX5_worthOf th P r2) fun r4 =>
  some (r4, P))
  else
  (mm_bd (fX5_passes th (1134 : Int32) (0 : Int32) P) fun r6 =>
  fX5_worthBehind_b28 th n x2 (x3 + (1 : Int32)) r6.2)
set_option maxHeartbeats 4000000 in
theorem wfX5_worthBehind_b28 {E : mm_E} (C : mm_Cx E RX5 cX5_worthBehind 4 (some .int) 5 121) {K : mm_K} {th : Nat} (hk : K.1 th = 5) {nx sl : Nat} : ∀ (n : Nat), ∀ (x2 : Int32) (x3 : Int32) (P : mm_P), mm_V E (mm_wwI K nx sl) 28 [some (.ref th), none, some (.int x2), some (.int x3)] [] K P nx sl (fX5_worthBehind_b28 th n x2 x3 P) := by
  intro n
  induction n with
  | zero => intro x2 x3 P; exact r_none
  | succ n ih =>
    intro x2 x3 P
    rw [fX5_worthBehind_b28]
    refine r_iload_n C dX5_worthBehind_28 rfl rfl ?_
    refine r_iload_n C dX5_worthBehind_29 rfl rfl ?_
    refine r_icmpge (tgt := 48) C dX5_worthBehind_30 (by decide) (fun h1 => ?_) (fun h1 => ?_)
    · refine r_aload_n C dX5_worthBehind_48 rfl rfl ?_
      refine r_aload_n C dX5_worthBehind_49 rfl rfl ?_
      refine r_sipush (v := 1134) C dX5_worthBehind_50 rfl ?_
      refine r_bd fun r2 h3 => ?_
      refine r_callV (As := [.int (1134 : Int32)]) (st := [.ref th]) C (mc_X5_lawsOf hk h3) cv_X5_358 hk rfl (Nat.le_of_ble_eq_true rfl) (Nat.le_of_ble_eq_true rfl) rfl (Nat.le_of_ble_eq_true rfl) dX5_worthBehind_53 ?_
      refine r_bd fun r4 h5 => ?_
      refine r_callV (As := [.int r2]) (st := []) C (mc_X5_worthOf hk h5) cv_X5_385 hk rfl (Nat.le_of_ble_eq_true rfl) (Nat.le_of_ble_eq_true rfl) rfl (Nat.le_of_ble_eq_true rfl) dX5_worthBehind_56 ?_
      exact r_iret C dX5_worthBehind_59 rfl
    · refine r_aload_n C dX5_worthBehind_33 rfl rfl ?_
      refine r_sipush (v := 1134) C dX5_worthBehind_34 rfl ?_
      refine r_iconst (v := 0) C dX5_worthBehind_37 rfl ?_
      refine r_bd fun r6 h7 => ?_
      refine r_callV (As := [.int (1134 : Int32), .int (0 : Int32)]) (st := []) C (mc_X5_passes hk h7) cv_X5_379 hk rfl (Nat.le_of_ble_eq_true rfl) (Nat.le_of_ble_eq_true rfl) rfl (Nat.le_of_ble_eq_true rfl) dX5_worthBehind_38 ?_
      refine r_pop C dX5_worthBehind_41 rfl ?_
      refine r_iinc (v := 1) (ls' := [some (.ref th), none, some (.int x2), some (.int (x3 + (1 : Int32)))]) C dX5_worthBehind_42 rfl rfl (Nat.le_of_ble_eq_true rfl) rfl rfl ?_
      refine r_goto (tgt := 28) C dX5_worthBehind_45 (by decide) ?_
      exact ih x2 (x3 + (1 : Int32)) r6.2
def fX5_worthBehind (th : Nat) (x1 : Int32) (x2 : Int32) (P : mm_P) : Option (Int32 × mm_P) :=
  mm_bd (fX5_copies th (0 : Int32) (1134 : Int32) (28 : Int32) P) fun r1 =>
  if x1 < 0 then
  (fX5_worthBehind_b28 th mm_NF x2 (0 : Int32) r1)
  else
  (mm_gd (mm_in ((1154 : Int32) + x1) 1242) <|
  mm_lt (sA r1 662 th ((1154 : Int32) + x1).toNatClampNeg (9 : Int32)) fun P5 =>
  fX5_worthBehind_b28 th mm_NF x2 (0 : Int32) P5)
set_option maxHeartbeats 4000000 in
theorem mc_X5_worthBehind {l : Launch} {K : mm_K} {P : mm_P} {th : Nat} {x1 : Int32} {x2 : Int32} {nx sl : Nat} {r : (Int32 × mm_P)} (hk : K.1 th = 5) (h : fX5_worthBehind th x1 x2 P = some r) : mm_C l yX5_worthBehind (ws_ yX5_worthBehind cX5_worthBehind 4 (some .int)) 5 121 [.ref th, .int x1, .int x2] K P nx sl (mm_wwI K nx sl r) :=
  mm_start (ls := [some (.ref th), some (.int x1), some (.int x2), none]) h (by decide) (Nat.le_of_ble_eq_true rfl) rfl (Nat.le_refl _) (Nat.le_refl _) rfl fun E hl9 _ _ _ C => by
  have C : mm_Cx E RX5 cX5_worthBehind 4 (some .int) 5 121 := C
  unfold fX5_worthBehind
  refine r_aload_n C dX5_worthBehind_0 rfl rfl ?_
  refine r_iconst (v := 0) C dX5_worthBehind_1 rfl ?_
  refine r_sipush (v := 1134) C dX5_worthBehind_2 rfl ?_
  refine r_bipush (v := 28) C dX5_worthBehind_5 rfl ?_
  refine r_bd fun r1 h2 => ?_
  refine r_callVv (As := [.int (0 : Int32), .int (1134 : Int32), .int (28 : Int32)]) (st := []) C (mc_X5_copies hk h2) cv_X5_288 hk rfl (Nat.le_of_ble_eq_true rfl) (Nat.le_of_ble_eq_true rfl) rfl (Nat.le_of_ble_eq_true rfl) dX5_worthBehind_7 ?_
  refine r_iload_n C dX5_worthBehind_10 rfl rfl ?_
  refine r_iflt (tgt := 26) C dX5_worthBehind_11 (by decide) (fun h3 => ?_) (fun h3 => ?_)
  · refine r_iconst (v := 0) C dX5_worthBehind_26 rfl ?_
    refine r_istore_n (ls' := [some (.ref th), some (.int x1), some (.int x2), some (.int (0 : Int32))]) C dX5_worthBehind_27 rfl (Nat.le_of_ble_eq_true rfl) rfl rfl ?_
    refine r_mask [true, false, true, true] (ls' := [some (.ref th), none, some (.int x2), some (.int (0 : Int32))]) rfl ?_
    exact wfX5_worthBehind_b28 C hk mm_NF x2 (0 : Int32) r1
  · refine r_aload_n C dX5_worthBehind_14 rfl rfl ?_
    refine r_getA C fl_X5_113 hk dX5_worthBehind_15 ?_
    refine r_sipush (v := 1154) C dX5_worthBehind_18 rfl ?_
    refine r_iload_n C dX5_worthBehind_21 rfl rfl ?_
    refine r_iadd C dX5_worthBehind_22 ?_
    refine r_bipush (v := 9) C dX5_worthBehind_23 rfl ?_
    refine r_iast C (rg_662 hk) (mm_ro_of (k := 5) hk rfl) rfl dX5_worthBehind_25 fun h4 => ?_
    refine r_ltP fun P5 => ?_
    refine r_iconst (v := 0) C dX5_worthBehind_26 rfl ?_
    refine r_istore_n (ls' := [some (.ref th), some (.int x1), some (.int x2), some (.int (0 : Int32))]) C dX5_worthBehind_27 rfl (Nat.le_of_ble_eq_true rfl) rfl rfl ?_
    refine r_mask [true, false, true, true] (ls' := [some (.ref th), none, some (.int x2), some (.int (0 : Int32))]) rfl ?_
    exact wfX5_worthBehind_b28 C hk mm_NF x2 (0 : Int32) P5
/-! change -/
def fX5_change_b61 (th : Nat) (k29 : Int32 → Int32 → Int32 → Int32 → mm_P → Option (Int32 × mm_P)) (x1 : Int32) (x3 : Int32) (x4 : Int32) (x5 : Int32) (s0 : Int32) (P : mm_P) : Option (Int32 × mm_P) :=
  if x5 ≤ x3 then
  (k29 x1 s0 x3 (x4 + (1 : Int32)) P)
  else
  (k29 x1 s0 x5 (x4 + (1 : Int32)) P)
set_option maxHeartbeats 4000000 in
theorem wfX5_change_b61 {E : mm_E} (C : mm_Cx E RX5 cX5_change 6 (some .int) 6 144) {K : mm_K} {th : Nat} (hk : K.1 th = 5) {nx sl : Nat} {k29 : Int32 → Int32 → Int32 → Int32 → mm_P → Option (Int32 × mm_P)} (hk29 : ∀ (x1 : Int32) (x2 : Int32) (x3 : Int32) (x4 : Int32) (P : mm_P), mm_V E (mm_wwI K nx sl) 29 [some (.ref th), some (.int x1), some (.int x2), some (.int x3), some (.int x4), none] [] K P nx sl (k29 x1 x2 x3 x4 P)) (x1 : Int32) (x3 : Int32) (x4 : Int32) (x5 : Int32) (s0 : Int32) (P : mm_P) : mm_V E (mm_wwI K nx sl) 61 [some (.ref th), some (.int x1), none, some (.int x3), some (.int x4), some (.int x5)] [.int s0] K P nx sl (fX5_change_b61 th k29 x1 x3 x4 x5 s0 P) := by
  unfold fX5_change_b61
  refine r_istore_n (ls' := [some (.ref th), some (.int x1), some (.int s0), some (.int x3), some (.int x4), some (.int x5)]) C dX5_change_61 rfl (Nat.le_of_ble_eq_true rfl) rfl rfl ?_
  refine r_iload C dX5_change_62 rfl ?_
  refine r_iload_n C dX5_change_64 rfl rfl ?_
  refine r_icmple (tgt := 73) C dX5_change_65 (by decide) (fun h1 => ?_) (fun h1 => ?_)
  · refine r_iload_n C dX5_change_73 rfl rfl ?_
    refine r_istore_n (ls' := [some (.ref th), some (.int x1), some (.int s0), some (.int x3), some (.int x4), some (.int x5)]) C dX5_change_74 rfl (Nat.le_of_ble_eq_true rfl) rfl rfl ?_
    refine r_iinc (v := 1) (ls' := [some (.ref th), some (.int x1), some (.int s0), some (.int x3), some (.int (x4 + (1 : Int32))), some (.int x5)]) C dX5_change_75 rfl rfl (Nat.le_of_ble_eq_true rfl) rfl rfl ?_
    refine r_goto (tgt := 29) C dX5_change_78 (by decide) ?_
    refine r_mask [true, true, true, true, true, false] (ls' := [some (.ref th), some (.int x1), some (.int s0), some (.int x3), some (.int (x4 + (1 : Int32))), none]) rfl ?_
    exact hk29 x1 s0 x3 (x4 + (1 : Int32)) P
  · refine r_iload C dX5_change_68 rfl ?_
    refine r_goto (tgt := 74) C dX5_change_70 (by decide) ?_
    refine r_istore_n (ls' := [some (.ref th), some (.int x1), some (.int s0), some (.int x5), some (.int x4), some (.int x5)]) C dX5_change_74 rfl (Nat.le_of_ble_eq_true rfl) rfl rfl ?_
    refine r_iinc (v := 1) (ls' := [some (.ref th), some (.int x1), some (.int s0), some (.int x5), some (.int (x4 + (1 : Int32))), some (.int x5)]) C dX5_change_75 rfl rfl (Nat.le_of_ble_eq_true rfl) rfl rfl ?_
    refine r_goto (tgt := 29) C dX5_change_78 (by decide) ?_
    refine r_mask [true, true, true, true, true, false] (ls' := [some (.ref th), some (.int x1), some (.int s0), some (.int x5), some (.int (x4 + (1 : Int32))), none]) rfl ?_
    exact hk29 x1 s0 x5 (x4 + (1 : Int32)) P
def fX5_change_b29 (th : Nat)  : Nat → Int32 → Int32 → Int32 → Int32 → mm_P → Option (Int32 × mm_P)
  | 0, _, _, _, _, _ => none
  | n + 1, x1, x2, x3, x4, P =>
  mm_gd (mm_in (1 : Int32) 1242) <|
  if (gA P 662 th (1 : Int32).toNatClampNeg) ≤ x4 then
  (some (x2, P))
  else
  (mm_bd (fX5_worthBehind th x4 x1 P) fun r3 =>
  if r3.1 ≤ x3 then
  (fX5_change_b61 th (fX5_change_b29 th n) x1 x3 x4 r3.1 x2 r3.2)
  else
  (fX5_change_b61 th (fX5_change_b29 th n) x1 x3 x4 r3.1 x4 r3.2))
set_option maxHeartbeats 4000000 in
theorem wfX5_change_b29 {E : mm_E} (C : mm_Cx E RX5 cX5_change 6 (some .int) 6 144) {K : mm_K} {th : Nat} (hk : K.1 th = 5) {nx sl : Nat} : ∀ (n : Nat), ∀ (x1 : Int32) (x2 : Int32) (x3 : Int32) (x4 : Int32) (P : mm_P), mm_V E (mm_wwI K nx sl) 29 [some (.ref th), some (.int x1), some (.int x2), some (.int x3), some (.int x4), none] [] K P nx sl (fX5_change_b29 th n x1 x2 x3 x4 P) := by
  intro n
  induction n with
  | zero => intro x1 x2 x3 x4 P; exact r_none
  | succ n ih =>
    intro x1 x2 x3 x4 P
    rw [fX5_change_b29]
    refine r_iload C dX5_change_29 rfl ?_
    refine r_aload_n C dX5_change_31 rfl rfl ?_
    refine r_getA C fl_X5_113 hk dX5_change_32 ?_
    refine r_iconst (v := 1) C dX5_change_35 rfl ?_
    refine r_iald C (rg_662 hk) rfl dX5_change_36 fun h1 => ?_
    refine r_icmpge (tgt := 81) C dX5_change_37 (by decide) (fun h2 => ?_) (fun h2 => ?_)
    · refine r_iload_n C dX5_change_81 rfl rfl ?_
      exact r_iret C dX5_change_82 rfl
    · refine r_aload_n C dX5_change_40 rfl rfl ?_
      refine r_iload C dX5_change_41 rfl ?_
      refine r_iload_n C dX5_change_43 rfl rfl ?_
      refine r_bd fun r3 h4 => ?_
      refine r_callV (As := [.int x4, .int x1]) (st := []) C (mc_X5_worthBehind hk h4) cv_X5_428 hk rfl (Nat.le_of_ble_eq_true rfl) (Nat.le_of_ble_eq_true rfl) rfl (Nat.le_of_ble_eq_true rfl) dX5_change_44 ?_
      refine r_istore (ls' := [some (.ref th), some (.int x1), some (.int x2), some (.int x3), some (.int x4), some (.int r3.1)]) C dX5_change_47 (Nat.le_of_ble_eq_true rfl) rfl rfl ?_
      refine r_iload C dX5_change_49 rfl ?_
      refine r_iload_n C dX5_change_51 rfl rfl ?_
      refine r_icmple (tgt := 60) C dX5_change_52 (by decide) (fun h5 => ?_) (fun h5 => ?_)
      · refine r_iload_n C dX5_change_60 rfl rfl ?_
        refine r_mask [true, true, false, true, true, true] (ls' := [some (.ref th), some (.int x1), none, some (.int x3), some (.int x4), some (.int r3.1)]) rfl ?_
        exact wfX5_change_b61 C hk ih x1 x3 x4 r3.1 x2 r3.2
      · refine r_iload C dX5_change_55 rfl ?_
        refine r_goto (tgt := 61) C dX5_change_57 (by decide) ?_
        refine r_mask [true, true, false, true, true, true] (ls' := [some (.ref th), some (.int x1), none, some (.int x3), some (.int x4), some (.int r3.1)]) rfl ?_
        exact wfX5_change_b61 C hk ih x1 x3 x4 r3.1 x4 r3.2
def fX5_change (th : Nat) (x1 : Int32) (P : mm_P) : Option (Int32 × mm_P) :=
  mm_lt (sI P 640 th (0 : Int32)) fun P1 =>
  mm_bd (fX5_within x1 (1 : Int32) (20 : Int32)) fun r2 =>
  if r2 ≠ 0 then
  (mm_bd (fX5_worthBehind th (-1 : Int32) x1 P1) fun r5 =>
  fX5_change_b29 th mm_NF x1 (-1 : Int32) r5.1 (0 : Int32) r5.2)
  else
  (some ((-1 : Int32), P1))
set_option maxHeartbeats 4000000 in
theorem mc_X5_change {l : Launch} {K : mm_K} {P : mm_P} {th : Nat} {x1 : Int32} {nx sl : Nat} {r : (Int32 × mm_P)} (hk : K.1 th = 5) (h : fX5_change th x1 P = some r) : mm_C l yX5_change (ws_ yX5_change cX5_change 6 (some .int)) 6 144 [.ref th, .int x1] K P nx sl (mm_wwI K nx sl r) :=
  mm_start (ls := [some (.ref th), some (.int x1), none, none, none, none]) h (by decide) (Nat.le_of_ble_eq_true rfl) rfl (Nat.le_refl _) (Nat.le_refl _) rfl fun E hl9 _ _ _ C => by
  have C : mm_Cx E RX5 cX5_change 6 (some .int) 6 144 := C
  unfold fX5_change
  refine r_aload_n C dX5_change_0 rfl rfl ?_
  refine r_iconst (v := 0) C dX5_change_1 rfl ?_
  refine r_putI (code := 640) C fl_X5_1 hk rfl rfl dX5_change_2 ?_
  refine r_ltP fun P1 => ?_
  refine r_iload_n C dX5_change_5 rfl rfl ?_
  refine r_iconst (v := 1) C dX5_change_6 rfl ?_
  refine r_bipush (v := 20) C dX5_change_7 rfl ?_
  refine r_bd fun r2 h3 => ?_
  refine r_callS (As := [.int x1, .int (1 : Int32), .int (20 : Int32)]) (st := []) C (mc_X5_within h3) cv_X5_349  rfl (Nat.le_of_ble_eq_true rfl) (Nat.le_of_ble_eq_true rfl) rfl (Nat.le_of_ble_eq_true rfl) dX5_change_9 ?_
  refine r_ifne (tgt := 17) C dX5_change_12 (by decide) (fun h4 => ?_) (fun h4 => ?_)
  · refine r_iconst (v := -1) C dX5_change_17 rfl ?_
    refine r_istore_n (ls' := [some (.ref th), some (.int x1), some (.int (-1 : Int32)), none, none, none]) C dX5_change_18 rfl (Nat.le_of_ble_eq_true rfl) rfl rfl ?_
    refine r_aload_n C dX5_change_19 rfl rfl ?_
    refine r_iconst (v := -1) C dX5_change_20 rfl ?_
    refine r_iload_n C dX5_change_21 rfl rfl ?_
    refine r_bd fun r5 h6 => ?_
    refine r_callV (As := [.int (-1 : Int32), .int x1]) (st := []) C (mc_X5_worthBehind hk h6) cv_X5_428 hk rfl (Nat.le_of_ble_eq_true rfl) (Nat.le_of_ble_eq_true rfl) rfl (Nat.le_of_ble_eq_true rfl) dX5_change_22 ?_
    refine r_istore_n (ls' := [some (.ref th), some (.int x1), some (.int (-1 : Int32)), some (.int r5.1), none, none]) C dX5_change_25 rfl (Nat.le_of_ble_eq_true rfl) rfl rfl ?_
    refine r_iconst (v := 0) C dX5_change_26 rfl ?_
    refine r_istore (ls' := [some (.ref th), some (.int x1), some (.int (-1 : Int32)), some (.int r5.1), some (.int (0 : Int32)), none]) C dX5_change_27 (Nat.le_of_ble_eq_true rfl) rfl rfl ?_
    exact wfX5_change_b29 C hk mm_NF x1 (-1 : Int32) r5.1 (0 : Int32) r5.2
  · refine r_iconst (v := -1) C dX5_change_15 rfl ?_
    exact r_iret C dX5_change_16 rfl
/-! rests -/
def fX5_rests_b251 (th : Nat)  (x4 : Int32) (x6 : Int32) (x7 : Int32) (s1 : Int32) (P : mm_P) : Option (Int32 × mm_P) :=
  mm_lt (sI P 640 th s1) fun P1 =>
  if (gI P1 640 th) ≤ 0 then
  (if 0 ≤ x4 then
  (some (x7, P1))
  else
  (some (x6, P1)))
  else
  (some ((0 : Int32), P1))
set_option maxHeartbeats 4000000 in
theorem wfX5_rests_b251 {E : mm_E} (C : mm_Cx E RX5 cX5_rests 15 (some .int) 1 22) {K : mm_K} {th : Nat} (hk : K.1 th = 5) {nx sl : Nat} (x4 : Int32) (x6 : Int32) (x7 : Int32) (s1 : Int32) (P : mm_P) : mm_V E (mm_wwI K nx sl) 251 [some (.ref th), none, none, none, some (.int x4), none, some (.int x6), some (.int x7), none, none, none, none, none, none, none] [.int s1, .ref th] K P nx sl (fX5_rests_b251 th x4 x6 x7 s1 P) := by
  unfold fX5_rests_b251
  refine r_putI (code := 640) C fl_X5_1 hk rfl rfl dX5_rests_251 ?_
  refine r_ltP fun P1 => ?_
  refine r_aload_n C dX5_rests_254 rfl rfl ?_
  refine r_getI (code := 640) C fl_X5_1 hk rfl dX5_rests_255 ?_
  refine r_ifle (tgt := 265) C dX5_rests_258 (by decide) (fun h2 => ?_) (fun h2 => ?_)
  · refine r_iload C dX5_rests_265 rfl ?_
    refine r_ifge (tgt := 275) C dX5_rests_267 (by decide) (fun h3 => ?_) (fun h3 => ?_)
    · refine r_iload C dX5_rests_275 rfl ?_
      exact r_iret C dX5_rests_277 rfl
    · refine r_iload C dX5_rests_270 rfl ?_
      refine r_goto (tgt := 277) C dX5_rests_272 (by decide) ?_
      exact r_iret C dX5_rests_277 rfl
  · refine r_iconst (v := 0) C dX5_rests_261 rfl ?_
    refine r_goto (tgt := 277) C dX5_rests_262 (by decide) ?_
    exact r_iret C dX5_rests_277 rfl
def fX5_rests_b250 (th : Nat)  (x4 : Int32) (x6 : Int32) (x7 : Int32) (P : mm_P) : Option (Int32 × mm_P) :=
  fX5_rests_b251 th x4 x6 x7 (1 : Int32) P
set_option maxHeartbeats 4000000 in
theorem wfX5_rests_b250 {E : mm_E} (C : mm_Cx E RX5 cX5_rests 15 (some .int) 1 22) {K : mm_K} {th : Nat} (hk : K.1 th = 5) {nx sl : Nat} (x4 : Int32) (x6 : Int32) (x7 : Int32) (P : mm_P) : mm_V E (mm_wwI K nx sl) 250 [some (.ref th), none, none, none, some (.int x4), none, some (.int x6), some (.int x7), none, none, none, none, none, none, none] [.ref th] K P nx sl (fX5_rests_b250 th x4 x6 x7 P) := by
  unfold fX5_rests_b250
  refine r_iconst (v := 1) C dX5_rests_250 rfl ?_
  exact wfX5_rests_b251 C hk x4 x6 x7 (1 : Int32) P
def fX5_rests_b246 (th : Nat)  (x4 : Int32) (x6 : Int32) (x7 : Int32) (P : mm_P) : Option (Int32 × mm_P) :=
  fX5_rests_b251 th x4 x6 x7 (0 : Int32) P
set_option maxHeartbeats 4000000 in
theorem wfX5_rests_b246 {E : mm_E} (C : mm_Cx E RX5 cX5_rests 15 (some .int) 1 22) {K : mm_K} {th : Nat} (hk : K.1 th = 5) {nx sl : Nat} (x4 : Int32) (x6 : Int32) (x7 : Int32) (P : mm_P) : mm_V E (mm_wwI K nx sl) 246 [some (.ref th), none, none, none, some (.int x4), none, some (.int x6), some (.int x7), none, none, none, none, none, none, none] [.ref th] K P nx sl (fX5_rests_b246 th x4 x6 x7 P) := by
  unfold fX5_rests_b246
  refine r_iconst (v := 0) C dX5_rests_246 rfl ?_
  refine r_goto (tgt := 251) C dX5_rests_247 (by decide) ?_
  exact wfX5_rests_b251 C hk x4 x6 x7 (0 : Int32) P
def fX5_rests_b230 (th : Nat)  (x4 : Int32) (x5 : Int32) (x6 : Int32) (x7 : Int32) (P : mm_P) : Option (Int32 × mm_P) :=
  if x5 = 0 then
  (fX5_rests_b250 th x4 x6 x7 P)
  else
  (if x4 < 0 then
  (fX5_rests_b246 th x4 x6 x7 P)
  else
  (if x7 < 0 then
  (fX5_rests_b250 th x4 x6 x7 P)
  else
  (fX5_rests_b246 th x4 x6 x7 P)))
set_option maxHeartbeats 4000000 in
theorem wfX5_rests_b230 {E : mm_E} (C : mm_Cx E RX5 cX5_rests 15 (some .int) 1 22) {K : mm_K} {th : Nat} (hk : K.1 th = 5) {nx sl : Nat} (x4 : Int32) (x5 : Int32) (x6 : Int32) (x7 : Int32) (P : mm_P) : mm_V E (mm_wwI K nx sl) 230 [some (.ref th), none, none, none, some (.int x4), some (.int x5), some (.int x6), some (.int x7), none, none, none, none, none, none, none] [] K P nx sl (fX5_rests_b230 th x4 x5 x6 x7 P) := by
  unfold fX5_rests_b230
  refine r_aload_n C dX5_rests_230 rfl rfl ?_
  refine r_iload C dX5_rests_231 rfl ?_
  refine r_ifeq (tgt := 250) C dX5_rests_233 (by decide) (fun h1 => ?_) (fun h1 => ?_)
  · refine r_mask [true, true, true, true, true, false, true, true, true, true, true, true, true, true, true] (ls' := [some (.ref th), none, none, none, some (.int x4), none, some (.int x6), some (.int x7), none, none, none, none, none, none, none]) rfl ?_
    exact wfX5_rests_b250 C hk x4 x6 x7 P
  · refine r_iload C dX5_rests_236 rfl ?_
    refine r_iflt (tgt := 246) C dX5_rests_238 (by decide) (fun h2 => ?_) (fun h2 => ?_)
    · refine r_mask [true, true, true, true, true, false, true, true, true, true, true, true, true, true, true] (ls' := [some (.ref th), none, none, none, some (.int x4), none, some (.int x6), some (.int x7), none, none, none, none, none, none, none]) rfl ?_
      exact wfX5_rests_b246 C hk x4 x6 x7 P
    · refine r_iload C dX5_rests_241 rfl ?_
      refine r_iflt (tgt := 250) C dX5_rests_243 (by decide) (fun h3 => ?_) (fun h3 => ?_)
      · refine r_mask [true, true, true, true, true, false, true, true, true, true, true, true, true, true, true] (ls' := [some (.ref th), none, none, none, some (.int x4), none, some (.int x6), some (.int x7), none, none, none, none, none, none, none]) rfl ?_
        exact wfX5_rests_b250 C hk x4 x6 x7 P
      · refine r_mask [true, true, true, true, true, false, true, true, true, true, true, true, true, true, true] (ls' := [some (.ref th), none, none, none, some (.int x4), none, some (.int x6), some (.int x7), none, none, none, none, none, none, none]) rfl ?_
        exact wfX5_rests_b246 C hk x4 x6 x7 P
def fX5_rests_b207 (th : Nat) (k52 : Int32 → Int32 → Int32 → Int32 → Int32 → Int32 → Int32 → Int32 → mm_P → Option (Int32 × mm_P)) (x1 : Int32) (x2 : Int32) (x3 : Int32) (x4 : Int32) (x5 : Int32) (x6 : Int32) (x8 : Int32) (x12 : Int32) (s0 : Int32) (P : mm_P) : Option (Int32 × mm_P) :=
  if x12 = 0 then
  (mm_lt (x6 + (0 : Int32)) fun v2 =>
  k52 x1 x2 x3 x4 x5 v2 s0 (x8 + (1 : Int32)) P)
  else
  (mm_lt (x6 + (1 : Int32)) fun v3 =>
  k52 x1 x2 x3 x4 x5 v3 s0 (x8 + (1 : Int32)) P)
set_option maxHeartbeats 4000000 in
theorem wfX5_rests_b207 {E : mm_E} (C : mm_Cx E RX5 cX5_rests 15 (some .int) 1 22) {K : mm_K} {th : Nat} (hk : K.1 th = 5) {nx sl : Nat} {k52 : Int32 → Int32 → Int32 → Int32 → Int32 → Int32 → Int32 → Int32 → mm_P → Option (Int32 × mm_P)} (hk52 : ∀ (x1 : Int32) (x2 : Int32) (x3 : Int32) (x4 : Int32) (x5 : Int32) (x6 : Int32) (x7 : Int32) (x8 : Int32) (P : mm_P), mm_V E (mm_wwI K nx sl) 52 [some (.ref th), some (.int x1), some (.int x2), some (.int x3), some (.int x4), some (.int x5), some (.int x6), some (.int x7), some (.int x8), none, none, none, none, none, none] [] K P nx sl (k52 x1 x2 x3 x4 x5 x6 x7 x8 P)) (x1 : Int32) (x2 : Int32) (x3 : Int32) (x4 : Int32) (x5 : Int32) (x6 : Int32) (x8 : Int32) (x12 : Int32) (s0 : Int32) (P : mm_P) : mm_V E (mm_wwI K nx sl) 207 [some (.ref th), some (.int x1), some (.int x2), some (.int x3), some (.int x4), some (.int x5), some (.int x6), none, some (.int x8), none, none, none, some (.int x12), none, none] [.int s0] K P nx sl (fX5_rests_b207 th k52 x1 x2 x3 x4 x5 x6 x8 x12 s0 P) := by
  unfold fX5_rests_b207
  refine r_istore (ls' := [some (.ref th), some (.int x1), some (.int x2), some (.int x3), some (.int x4), some (.int x5), some (.int x6), some (.int s0), some (.int x8), none, none, none, some (.int x12), none, none]) C dX5_rests_207 (Nat.le_of_ble_eq_true rfl) rfl rfl ?_
  refine r_iload C dX5_rests_209 rfl ?_
  refine r_iload C dX5_rests_211 rfl ?_
  refine r_ifeq (tgt := 220) C dX5_rests_213 (by decide) (fun h1 => ?_) (fun h1 => ?_)
  · refine r_iconst (v := 0) C dX5_rests_220 rfl ?_
    refine r_iadd C dX5_rests_221 ?_
    refine r_ltI fun v2 => ?_
    refine r_istore (ls' := [some (.ref th), some (.int x1), some (.int x2), some (.int x3), some (.int x4), some (.int x5), some (.int v2), some (.int s0), some (.int x8), none, none, none, some (.int x12), none, none]) C dX5_rests_222 (Nat.le_of_ble_eq_true rfl) rfl rfl ?_
    refine r_iinc (v := 1) (ls' := [some (.ref th), some (.int x1), some (.int x2), some (.int x3), some (.int x4), some (.int x5), some (.int v2), some (.int s0), some (.int (x8 + (1 : Int32))), none, none, none, some (.int x12), none, none]) C dX5_rests_224 rfl rfl (Nat.le_of_ble_eq_true rfl) rfl rfl ?_
    refine r_goto (tgt := 52) C dX5_rests_227 (by decide) ?_
    refine r_mask [true, true, true, true, true, true, true, true, true, true, true, true, false, true, true] (ls' := [some (.ref th), some (.int x1), some (.int x2), some (.int x3), some (.int x4), some (.int x5), some (.int v2), some (.int s0), some (.int (x8 + (1 : Int32))), none, none, none, none, none, none]) rfl ?_
    exact hk52 x1 x2 x3 x4 x5 v2 s0 (x8 + (1 : Int32)) P
  · refine r_iconst (v := 1) C dX5_rests_216 rfl ?_
    refine r_goto (tgt := 221) C dX5_rests_217 (by decide) ?_
    refine r_iadd C dX5_rests_221 ?_
    refine r_ltI fun v3 => ?_
    refine r_istore (ls' := [some (.ref th), some (.int x1), some (.int x2), some (.int x3), some (.int x4), some (.int x5), some (.int v3), some (.int s0), some (.int x8), none, none, none, some (.int x12), none, none]) C dX5_rests_222 (Nat.le_of_ble_eq_true rfl) rfl rfl ?_
    refine r_iinc (v := 1) (ls' := [some (.ref th), some (.int x1), some (.int x2), some (.int x3), some (.int x4), some (.int x5), some (.int v3), some (.int s0), some (.int (x8 + (1 : Int32))), none, none, none, some (.int x12), none, none]) C dX5_rests_224 rfl rfl (Nat.le_of_ble_eq_true rfl) rfl rfl ?_
    refine r_goto (tgt := 52) C dX5_rests_227 (by decide) ?_
    refine r_mask [true, true, true, true, true, true, true, true, true, true, true, true, false, true, true] (ls' := [some (.ref th), some (.int x1), some (.int x2), some (.int x3), some (.int x4), some (.int x5), some (.int v3), some (.int s0), some (.int (x8 + (1 : Int32))), none, none, none, none, none, none]) rfl ?_
    exact hk52 x1 x2 x3 x4 x5 v3 s0 (x8 + (1 : Int32)) P
def fX5_rests_b205 (th : Nat) (k52 : Int32 → Int32 → Int32 → Int32 → Int32 → Int32 → Int32 → Int32 → mm_P → Option (Int32 × mm_P)) (x1 : Int32) (x2 : Int32) (x3 : Int32) (x4 : Int32) (x5 : Int32) (x6 : Int32) (x7 : Int32) (x8 : Int32) (x12 : Int32) (P : mm_P) : Option (Int32 × mm_P) :=
  fX5_rests_b207 th k52 x1 x2 x3 x4 x5 x6 x8 x12 x7 P
set_option maxHeartbeats 4000000 in
theorem wfX5_rests_b205 {E : mm_E} (C : mm_Cx E RX5 cX5_rests 15 (some .int) 1 22) {K : mm_K} {th : Nat} (hk : K.1 th = 5) {nx sl : Nat} {k52 : Int32 → Int32 → Int32 → Int32 → Int32 → Int32 → Int32 → Int32 → mm_P → Option (Int32 × mm_P)} (hk52 : ∀ (x1 : Int32) (x2 : Int32) (x3 : Int32) (x4 : Int32) (x5 : Int32) (x6 : Int32) (x7 : Int32) (x8 : Int32) (P : mm_P), mm_V E (mm_wwI K nx sl) 52 [some (.ref th), some (.int x1), some (.int x2), some (.int x3), some (.int x4), some (.int x5), some (.int x6), some (.int x7), some (.int x8), none, none, none, none, none, none] [] K P nx sl (k52 x1 x2 x3 x4 x5 x6 x7 x8 P)) (x1 : Int32) (x2 : Int32) (x3 : Int32) (x4 : Int32) (x5 : Int32) (x6 : Int32) (x7 : Int32) (x8 : Int32) (x12 : Int32) (P : mm_P) : mm_V E (mm_wwI K nx sl) 205 [some (.ref th), some (.int x1), some (.int x2), some (.int x3), some (.int x4), some (.int x5), some (.int x6), some (.int x7), some (.int x8), none, none, none, some (.int x12), none, none] [] K P nx sl (fX5_rests_b205 th k52 x1 x2 x3 x4 x5 x6 x7 x8 x12 P) := by
  unfold fX5_rests_b205
  refine r_iload C dX5_rests_205 rfl ?_
  refine r_mask [true, true, true, true, true, true, true, false, true, true, true, true, true, true, true] (ls' := [some (.ref th), some (.int x1), some (.int x2), some (.int x3), some (.int x4), some (.int x5), some (.int x6), none, some (.int x8), none, none, none, some (.int x12), none, none]) rfl ?_
  exact wfX5_rests_b207 C hk hk52 x1 x2 x3 x4 x5 x6 x8 x12 x7 P
def fX5_rests_b161 (th : Nat) (k52 : Int32 → Int32 → Int32 → Int32 → Int32 → Int32 → Int32 → Int32 → mm_P → Option (Int32 × mm_P)) (k124 : Int32 → Int32 → Int32 → Int32 → Int32 → Int32 → Int32 → Int32 → Int32 → Int32 → Int32 → Int32 → mm_P → Option (Int32 × mm_P)) (x1 : Int32) (x2 : Int32) (x3 : Int32) (x4 : Int32) (x5 : Int32) (x6 : Int32) (x7 : Int32) (x8 : Int32) (x9 : Int32) (x11 : Int32) (x12 : Int32) (x13 : Int32) (s0 : Int32) (P : mm_P) : Option (Int32 × mm_P) :=
  if x12 = 0 then
  (k124 x1 x2 x3 x4 x5 x6 x7 x8 x9 x11 (0 : Int32) (x13 + (1 : Int32)) P)
  else
  (if x11 < s0 then
  (k124 x1 x2 x3 x4 x5 x6 x7 x8 x9 x11 (0 : Int32) (x13 + (1 : Int32)) P)
  else
  (k124 x1 x2 x3 x4 x5 x6 x7 x8 x9 x11 (1 : Int32) (x13 + (1 : Int32)) P))
set_option maxHeartbeats 4000000 in
theorem wfX5_rests_b161 {E : mm_E} (C : mm_Cx E RX5 cX5_rests 15 (some .int) 1 22) {K : mm_K} {th : Nat} (hk : K.1 th = 5) {nx sl : Nat} {k52 : Int32 → Int32 → Int32 → Int32 → Int32 → Int32 → Int32 → Int32 → mm_P → Option (Int32 × mm_P)} (hk52 : ∀ (x1 : Int32) (x2 : Int32) (x3 : Int32) (x4 : Int32) (x5 : Int32) (x6 : Int32) (x7 : Int32) (x8 : Int32) (P : mm_P), mm_V E (mm_wwI K nx sl) 52 [some (.ref th), some (.int x1), some (.int x2), some (.int x3), some (.int x4), some (.int x5), some (.int x6), some (.int x7), some (.int x8), none, none, none, none, none, none] [] K P nx sl (k52 x1 x2 x3 x4 x5 x6 x7 x8 P)) {k124 : Int32 → Int32 → Int32 → Int32 → Int32 → Int32 → Int32 → Int32 → Int32 → Int32 → Int32 → Int32 → mm_P → Option (Int32 × mm_P)} (hk124 : ∀ (x1 : Int32) (x2 : Int32) (x3 : Int32) (x4 : Int32) (x5 : Int32) (x6 : Int32) (x7 : Int32) (x8 : Int32) (x9 : Int32) (x11 : Int32) (x12 : Int32) (x13 : Int32) (P : mm_P), mm_V E (mm_wwI K nx sl) 124 [some (.ref th), some (.int x1), some (.int x2), some (.int x3), some (.int x4), some (.int x5), some (.int x6), some (.int x7), some (.int x8), some (.int x9), none, some (.int x11), some (.int x12), some (.int x13), none] [] K P nx sl (k124 x1 x2 x3 x4 x5 x6 x7 x8 x9 x11 x12 x13 P)) (x1 : Int32) (x2 : Int32) (x3 : Int32) (x4 : Int32) (x5 : Int32) (x6 : Int32) (x7 : Int32) (x8 : Int32) (x9 : Int32) (x11 : Int32) (x12 : Int32) (x13 : Int32) (s0 : Int32) (P : mm_P) : mm_V E (mm_wwI K nx sl) 161 [some (.ref th), some (.int x1), some (.int x2), some (.int x3), some (.int x4), some (.int x5), some (.int x6), some (.int x7), some (.int x8), some (.int x9), none, some (.int x11), some (.int x12), some (.int x13), none] [.int s0] K P nx sl (fX5_rests_b161 th k52 k124 x1 x2 x3 x4 x5 x6 x7 x8 x9 x11 x12 x13 s0 P) := by
  unfold fX5_rests_b161
  refine r_istore (ls' := [some (.ref th), some (.int x1), some (.int x2), some (.int x3), some (.int x4), some (.int x5), some (.int x6), some (.int x7), some (.int x8), some (.int x9), none, some (.int x11), some (.int x12), some (.int x13), some (.int s0)]) C dX5_rests_161 (Nat.le_of_ble_eq_true rfl) rfl rfl ?_
  refine r_iload C dX5_rests_163 rfl ?_
  refine r_ifeq (tgt := 179) C dX5_rests_165 (by decide) (fun h1 => ?_) (fun h1 => ?_)
  · refine r_iconst (v := 0) C dX5_rests_179 rfl ?_
    refine r_istore (ls' := [some (.ref th), some (.int x1), some (.int x2), some (.int x3), some (.int x4), some (.int x5), some (.int x6), some (.int x7), some (.int x8), some (.int x9), none, some (.int x11), some (.int (0 : Int32)), some (.int x13), some (.int s0)]) C dX5_rests_180 (Nat.le_of_ble_eq_true rfl) rfl rfl ?_
    refine r_iinc (v := 1) (ls' := [some (.ref th), some (.int x1), some (.int x2), some (.int x3), some (.int x4), some (.int x5), some (.int x6), some (.int x7), some (.int x8), some (.int x9), none, some (.int x11), some (.int (0 : Int32)), some (.int (x13 + (1 : Int32))), some (.int s0)]) C dX5_rests_182 rfl rfl (Nat.le_of_ble_eq_true rfl) rfl rfl ?_
    refine r_goto (tgt := 124) C dX5_rests_185 (by decide) ?_
    refine r_mask [true, true, true, true, true, true, true, true, true, true, true, true, true, true, false] (ls' := [some (.ref th), some (.int x1), some (.int x2), some (.int x3), some (.int x4), some (.int x5), some (.int x6), some (.int x7), some (.int x8), some (.int x9), none, some (.int x11), some (.int (0 : Int32)), some (.int (x13 + (1 : Int32))), none]) rfl ?_
    exact hk124 x1 x2 x3 x4 x5 x6 x7 x8 x9 x11 (0 : Int32) (x13 + (1 : Int32)) P
  · refine r_iload C dX5_rests_168 rfl ?_
    refine r_iload C dX5_rests_170 rfl ?_
    refine r_icmpgt (tgt := 179) C dX5_rests_172 (by decide) (fun h2 => ?_) (fun h2 => ?_)
    · refine r_iconst (v := 0) C dX5_rests_179 rfl ?_
      refine r_istore (ls' := [some (.ref th), some (.int x1), some (.int x2), some (.int x3), some (.int x4), some (.int x5), some (.int x6), some (.int x7), some (.int x8), some (.int x9), none, some (.int x11), some (.int (0 : Int32)), some (.int x13), some (.int s0)]) C dX5_rests_180 (Nat.le_of_ble_eq_true rfl) rfl rfl ?_
      refine r_iinc (v := 1) (ls' := [some (.ref th), some (.int x1), some (.int x2), some (.int x3), some (.int x4), some (.int x5), some (.int x6), some (.int x7), some (.int x8), some (.int x9), none, some (.int x11), some (.int (0 : Int32)), some (.int (x13 + (1 : Int32))), some (.int s0)]) C dX5_rests_182 rfl rfl (Nat.le_of_ble_eq_true rfl) rfl rfl ?_
      refine r_goto (tgt := 124) C dX5_rests_185 (by decide) ?_
      refine r_mask [true, true, true, true, true, true, true, true, true, true, true, true, true, true, false] (ls' := [some (.ref th), some (.int x1), some (.int x2), some (.int x3), some (.int x4), some (.int x5), some (.int x6), some (.int x7), some (.int x8), some (.int x9), none, some (.int x11), some (.int (0 : Int32)), some (.int (x13 + (1 : Int32))), none]) rfl ?_
      exact hk124 x1 x2 x3 x4 x5 x6 x7 x8 x9 x11 (0 : Int32) (x13 + (1 : Int32)) P
    · refine r_iconst (v := 1) C dX5_rests_175 rfl ?_
      refine r_goto (tgt := 180) C dX5_rests_176 (by decide) ?_
      refine r_istore (ls' := [some (.ref th), some (.int x1), some (.int x2), some (.int x3), some (.int x4), some (.int x5), some (.int x6), some (.int x7), some (.int x8), some (.int x9), none, some (.int x11), some (.int (1 : Int32)), some (.int x13), some (.int s0)]) C dX5_rests_180 (Nat.le_of_ble_eq_true rfl) rfl rfl ?_
      refine r_iinc (v := 1) (ls' := [some (.ref th), some (.int x1), some (.int x2), some (.int x3), some (.int x4), some (.int x5), some (.int x6), some (.int x7), some (.int x8), some (.int x9), none, some (.int x11), some (.int (1 : Int32)), some (.int (x13 + (1 : Int32))), some (.int s0)]) C dX5_rests_182 rfl rfl (Nat.le_of_ble_eq_true rfl) rfl rfl ?_
      refine r_goto (tgt := 124) C dX5_rests_185 (by decide) ?_
      refine r_mask [true, true, true, true, true, true, true, true, true, true, true, true, true, true, false] (ls' := [some (.ref th), some (.int x1), some (.int x2), some (.int x3), some (.int x4), some (.int x5), some (.int x6), some (.int x7), some (.int x8), some (.int x9), none, some (.int x11), some (.int (1 : Int32)), some (.int (x13 + (1 : Int32))), none]) rfl ?_
      exact hk124 x1 x2 x3 x4 x5 x6 x7 x8 x9 x11 (1 : Int32) (x13 + (1 : Int32)) P
def fX5_rests_b124 (th : Nat) (k52 : Int32 → Int32 → Int32 → Int32 → Int32 → Int32 → Int32 → Int32 → mm_P → Option (Int32 × mm_P)) : Nat → Int32 → Int32 → Int32 → Int32 → Int32 → Int32 → Int32 → Int32 → Int32 → Int32 → Int32 → Int32 → mm_P → Option (Int32 × mm_P)
  | 0, _, _, _, _, _, _, _, _, _, _, _, _, _ => none
  | n + 1, x1, x2, x3, x4, x5, x6, x7, x8, x9, x11, x12, x13, P =>
  if (3 : Int32) ≤ x13 then
  (if x12 = 0 then
  (fX5_rests_b205 th k52 x1 x2 x3 x4 x5 x6 x7 x8 x12 P)
  else
  (if x6 ≠ x4 then
  (fX5_rests_b205 th k52 x1 x2 x3 x4 x5 x6 x7 x8 x12 P)
  else
  (fX5_rests_b207 th k52 x1 x2 x3 x4 x5 x6 x8 x12 x8 P)))
  else
  (if x9 ≠ x13 then
  (if x13 ≠ 0 then
  (if x13 ≠ (1 : Int32) then
  (fX5_rests_b161 th k52 (fX5_rests_b124 th k52 n) x1 x2 x3 x4 x5 x6 x7 x8 x9 x11 x12 x13 x3 P)
  else
  (fX5_rests_b161 th k52 (fX5_rests_b124 th k52 n) x1 x2 x3 x4 x5 x6 x7 x8 x9 x11 x12 x13 x2 P))
  else
  (fX5_rests_b161 th k52 (fX5_rests_b124 th k52 n) x1 x2 x3 x4 x5 x6 x7 x8 x9 x11 x12 x13 x1 P))
  else
  (fX5_rests_b161 th k52 (fX5_rests_b124 th k52 n) x1 x2 x3 x4 x5 x6 x7 x8 x9 x11 x12 x13 (0 : Int32) P))
set_option maxHeartbeats 4000000 in
theorem wfX5_rests_b124 {E : mm_E} (C : mm_Cx E RX5 cX5_rests 15 (some .int) 1 22) {K : mm_K} {th : Nat} (hk : K.1 th = 5) {nx sl : Nat} {k52 : Int32 → Int32 → Int32 → Int32 → Int32 → Int32 → Int32 → Int32 → mm_P → Option (Int32 × mm_P)} (hk52 : ∀ (x1 : Int32) (x2 : Int32) (x3 : Int32) (x4 : Int32) (x5 : Int32) (x6 : Int32) (x7 : Int32) (x8 : Int32) (P : mm_P), mm_V E (mm_wwI K nx sl) 52 [some (.ref th), some (.int x1), some (.int x2), some (.int x3), some (.int x4), some (.int x5), some (.int x6), some (.int x7), some (.int x8), none, none, none, none, none, none] [] K P nx sl (k52 x1 x2 x3 x4 x5 x6 x7 x8 P)) : ∀ (n : Nat), ∀ (x1 : Int32) (x2 : Int32) (x3 : Int32) (x4 : Int32) (x5 : Int32) (x6 : Int32) (x7 : Int32) (x8 : Int32) (x9 : Int32) (x11 : Int32) (x12 : Int32) (x13 : Int32) (P : mm_P), mm_V E (mm_wwI K nx sl) 124 [some (.ref th), some (.int x1), some (.int x2), some (.int x3), some (.int x4), some (.int x5), some (.int x6), some (.int x7), some (.int x8), some (.int x9), none, some (.int x11), some (.int x12), some (.int x13), none] [] K P nx sl (fX5_rests_b124 th k52 n x1 x2 x3 x4 x5 x6 x7 x8 x9 x11 x12 x13 P) := by
  intro n
  induction n with
  | zero => intro x1 x2 x3 x4 x5 x6 x7 x8 x9 x11 x12 x13 P; exact r_none
  | succ n ih =>
    intro x1 x2 x3 x4 x5 x6 x7 x8 x9 x11 x12 x13 P
    rw [fX5_rests_b124]
    refine r_iload C dX5_rests_124 rfl ?_
    refine r_iconst (v := 3) C dX5_rests_126 rfl ?_
    refine r_icmpge (tgt := 188) C dX5_rests_127 (by decide) (fun h1 => ?_) (fun h1 => ?_)
    · refine r_iload C dX5_rests_188 rfl ?_
      refine r_ifeq (tgt := 205) C dX5_rests_190 (by decide) (fun h2 => ?_) (fun h2 => ?_)
      · refine r_mask [true, true, true, true, true, true, true, true, true, false, true, false, true, false, true] (ls' := [some (.ref th), some (.int x1), some (.int x2), some (.int x3), some (.int x4), some (.int x5), some (.int x6), some (.int x7), some (.int x8), none, none, none, some (.int x12), none, none]) rfl ?_
        exact wfX5_rests_b205 C hk hk52 x1 x2 x3 x4 x5 x6 x7 x8 x12 P
      · refine r_iload C dX5_rests_193 rfl ?_
        refine r_iload C dX5_rests_195 rfl ?_
        refine r_icmpne (tgt := 205) C dX5_rests_197 (by decide) (fun h3 => ?_) (fun h3 => ?_)
        · refine r_mask [true, true, true, true, true, true, true, true, true, false, true, false, true, false, true] (ls' := [some (.ref th), some (.int x1), some (.int x2), some (.int x3), some (.int x4), some (.int x5), some (.int x6), some (.int x7), some (.int x8), none, none, none, some (.int x12), none, none]) rfl ?_
          exact wfX5_rests_b205 C hk hk52 x1 x2 x3 x4 x5 x6 x7 x8 x12 P
        · refine r_iload C dX5_rests_200 rfl ?_
          refine r_goto (tgt := 207) C dX5_rests_202 (by decide) ?_
          refine r_mask [true, true, true, true, true, true, true, false, true, false, true, false, true, false, true] (ls' := [some (.ref th), some (.int x1), some (.int x2), some (.int x3), some (.int x4), some (.int x5), some (.int x6), none, some (.int x8), none, none, none, some (.int x12), none, none]) rfl ?_
          exact wfX5_rests_b207 C hk hk52 x1 x2 x3 x4 x5 x6 x8 x12 x8 P
    · refine r_iload C dX5_rests_130 rfl ?_
      refine r_iload C dX5_rests_132 rfl ?_
      refine r_icmpne (tgt := 141) C dX5_rests_134 (by decide) (fun h4 => ?_) (fun h4 => ?_)
      · refine r_iload C dX5_rests_141 rfl ?_
        refine r_ifne (tgt := 150) C dX5_rests_143 (by decide) (fun h5 => ?_) (fun h5 => ?_)
        · refine r_iload C dX5_rests_150 rfl ?_
          refine r_iconst (v := 1) C dX5_rests_152 rfl ?_
          refine r_icmpne (tgt := 160) C dX5_rests_153 (by decide) (fun h6 => ?_) (fun h6 => ?_)
          · refine r_iload_n C dX5_rests_160 rfl rfl ?_
            exact wfX5_rests_b161 C hk hk52 ih x1 x2 x3 x4 x5 x6 x7 x8 x9 x11 x12 x13 x3 P
          · refine r_iload_n C dX5_rests_156 rfl rfl ?_
            refine r_goto (tgt := 161) C dX5_rests_157 (by decide) ?_
            exact wfX5_rests_b161 C hk hk52 ih x1 x2 x3 x4 x5 x6 x7 x8 x9 x11 x12 x13 x2 P
        · refine r_iload_n C dX5_rests_146 rfl rfl ?_
          refine r_goto (tgt := 161) C dX5_rests_147 (by decide) ?_
          exact wfX5_rests_b161 C hk hk52 ih x1 x2 x3 x4 x5 x6 x7 x8 x9 x11 x12 x13 x1 P
      · refine r_iconst (v := 0) C dX5_rests_137 rfl ?_
        refine r_goto (tgt := 161) C dX5_rests_138 (by decide) ?_
        exact wfX5_rests_b161 C hk hk52 ih x1 x2 x3 x4 x5 x6 x7 x8 x9 x11 x12 x13 (0 : Int32) P
def fX5_rests_b107 (th : Nat) (k52 : Int32 → Int32 → Int32 → Int32 → Int32 → Int32 → Int32 → Int32 → mm_P → Option (Int32 × mm_P)) (x1 : Int32) (x2 : Int32) (x3 : Int32) (x4 : Int32) (x5 : Int32) (x6 : Int32) (x7 : Int32) (x8 : Int32) (x9 : Int32) (s0 : Int32) (P : mm_P) : Option (Int32 × mm_P) :=
  if s0 ≠ 0 then
  (fX5_rests_b124 th k52 mm_NF x1 x2 x3 x4 x5 x6 x7 x8 x9 s0 (0 : Int32) (0 : Int32) P)
  else
  (fX5_rests_b124 th k52 mm_NF x1 x2 x3 x4 x5 x6 x7 x8 x9 s0 (1 : Int32) (0 : Int32) P)
set_option maxHeartbeats 4000000 in
theorem wfX5_rests_b107 {E : mm_E} (C : mm_Cx E RX5 cX5_rests 15 (some .int) 1 22) {K : mm_K} {th : Nat} (hk : K.1 th = 5) {nx sl : Nat} {k52 : Int32 → Int32 → Int32 → Int32 → Int32 → Int32 → Int32 → Int32 → mm_P → Option (Int32 × mm_P)} (hk52 : ∀ (x1 : Int32) (x2 : Int32) (x3 : Int32) (x4 : Int32) (x5 : Int32) (x6 : Int32) (x7 : Int32) (x8 : Int32) (P : mm_P), mm_V E (mm_wwI K nx sl) 52 [some (.ref th), some (.int x1), some (.int x2), some (.int x3), some (.int x4), some (.int x5), some (.int x6), some (.int x7), some (.int x8), none, none, none, none, none, none] [] K P nx sl (k52 x1 x2 x3 x4 x5 x6 x7 x8 P)) (x1 : Int32) (x2 : Int32) (x3 : Int32) (x4 : Int32) (x5 : Int32) (x6 : Int32) (x7 : Int32) (x8 : Int32) (x9 : Int32) (s0 : Int32) (P : mm_P) : mm_V E (mm_wwI K nx sl) 107 [some (.ref th), some (.int x1), some (.int x2), some (.int x3), some (.int x4), some (.int x5), some (.int x6), some (.int x7), some (.int x8), some (.int x9), none, none, none, none, none] [.int s0] K P nx sl (fX5_rests_b107 th k52 x1 x2 x3 x4 x5 x6 x7 x8 x9 s0 P) := by
  unfold fX5_rests_b107
  refine r_istore (ls' := [some (.ref th), some (.int x1), some (.int x2), some (.int x3), some (.int x4), some (.int x5), some (.int x6), some (.int x7), some (.int x8), some (.int x9), none, some (.int s0), none, none, none]) C dX5_rests_107 (Nat.le_of_ble_eq_true rfl) rfl rfl ?_
  refine r_iload C dX5_rests_109 rfl ?_
  refine r_ifne (tgt := 118) C dX5_rests_111 (by decide) (fun h1 => ?_) (fun h1 => ?_)
  · refine r_iconst (v := 0) C dX5_rests_118 rfl ?_
    refine r_istore (ls' := [some (.ref th), some (.int x1), some (.int x2), some (.int x3), some (.int x4), some (.int x5), some (.int x6), some (.int x7), some (.int x8), some (.int x9), none, some (.int s0), some (.int (0 : Int32)), none, none]) C dX5_rests_119 (Nat.le_of_ble_eq_true rfl) rfl rfl ?_
    refine r_iconst (v := 0) C dX5_rests_121 rfl ?_
    refine r_istore (ls' := [some (.ref th), some (.int x1), some (.int x2), some (.int x3), some (.int x4), some (.int x5), some (.int x6), some (.int x7), some (.int x8), some (.int x9), none, some (.int s0), some (.int (0 : Int32)), some (.int (0 : Int32)), none]) C dX5_rests_122 (Nat.le_of_ble_eq_true rfl) rfl rfl ?_
    exact wfX5_rests_b124 C hk hk52 mm_NF x1 x2 x3 x4 x5 x6 x7 x8 x9 s0 (0 : Int32) (0 : Int32) P
  · refine r_iconst (v := 1) C dX5_rests_114 rfl ?_
    refine r_goto (tgt := 119) C dX5_rests_115 (by decide) ?_
    refine r_istore (ls' := [some (.ref th), some (.int x1), some (.int x2), some (.int x3), some (.int x4), some (.int x5), some (.int x6), some (.int x7), some (.int x8), some (.int x9), none, some (.int s0), some (.int (1 : Int32)), none, none]) C dX5_rests_119 (Nat.le_of_ble_eq_true rfl) rfl rfl ?_
    refine r_iconst (v := 0) C dX5_rests_121 rfl ?_
    refine r_istore (ls' := [some (.ref th), some (.int x1), some (.int x2), some (.int x3), some (.int x4), some (.int x5), some (.int x6), some (.int x7), some (.int x8), some (.int x9), none, some (.int s0), some (.int (1 : Int32)), some (.int (0 : Int32)), none]) C dX5_rests_122 (Nat.le_of_ble_eq_true rfl) rfl rfl ?_
    exact wfX5_rests_b124 C hk hk52 mm_NF x1 x2 x3 x4 x5 x6 x7 x8 x9 s0 (1 : Int32) (0 : Int32) P
def fX5_rests_b52 (th : Nat)  : Nat → Int32 → Int32 → Int32 → Int32 → Int32 → Int32 → Int32 → Int32 → mm_P → Option (Int32 × mm_P)
  | 0, _, _, _, _, _, _, _, _, _ => none
  | n + 1, x1, x2, x3, x4, x5, x6, x7, x8, P =>
  if (9 : Int32) ≤ x8 then
  (fX5_rests_b230 th x4 x5 x6 x7 P)
  else
  (if x5 = 0 then
  (fX5_rests_b230 th x4 x5 x6 x7 P)
  else
  (mm_lt (x8 / (3 : Int32)) fun v3 =>
  mm_lt (mm_rem x8 (3 : Int32)) fun v4 =>
  if v3 ≠ v4 then
  (if v4 ≠ 0 then
  (if v4 ≠ (1 : Int32) then
  (fX5_rests_b107 th (fX5_rests_b52 th n) x1 x2 x3 x4 x5 x6 x7 x8 v3 x3 P)
  else
  (fX5_rests_b107 th (fX5_rests_b52 th n) x1 x2 x3 x4 x5 x6 x7 x8 v3 x2 P))
  else
  (fX5_rests_b107 th (fX5_rests_b52 th n) x1 x2 x3 x4 x5 x6 x7 x8 v3 x1 P))
  else
  (fX5_rests_b107 th (fX5_rests_b52 th n) x1 x2 x3 x4 x5 x6 x7 x8 v3 (0 : Int32) P)))
set_option maxHeartbeats 4000000 in
theorem wfX5_rests_b52 {E : mm_E} (C : mm_Cx E RX5 cX5_rests 15 (some .int) 1 22) {K : mm_K} {th : Nat} (hk : K.1 th = 5) {nx sl : Nat} : ∀ (n : Nat), ∀ (x1 : Int32) (x2 : Int32) (x3 : Int32) (x4 : Int32) (x5 : Int32) (x6 : Int32) (x7 : Int32) (x8 : Int32) (P : mm_P), mm_V E (mm_wwI K nx sl) 52 [some (.ref th), some (.int x1), some (.int x2), some (.int x3), some (.int x4), some (.int x5), some (.int x6), some (.int x7), some (.int x8), none, none, none, none, none, none] [] K P nx sl (fX5_rests_b52 th n x1 x2 x3 x4 x5 x6 x7 x8 P) := by
  intro n
  induction n with
  | zero => intro x1 x2 x3 x4 x5 x6 x7 x8 P; exact r_none
  | succ n ih =>
    intro x1 x2 x3 x4 x5 x6 x7 x8 P
    rw [fX5_rests_b52]
    refine r_iload C dX5_rests_52 rfl ?_
    refine r_bipush (v := 9) C dX5_rests_54 rfl ?_
    refine r_icmpge (tgt := 230) C dX5_rests_56 (by decide) (fun h1 => ?_) (fun h1 => ?_)
    · refine r_mask [true, false, false, false, true, true, true, true, false, true, true, true, true, true, true] (ls' := [some (.ref th), none, none, none, some (.int x4), some (.int x5), some (.int x6), some (.int x7), none, none, none, none, none, none, none]) rfl ?_
      exact wfX5_rests_b230 C hk x4 x5 x6 x7 P
    · refine r_iload C dX5_rests_59 rfl ?_
      refine r_ifeq (tgt := 230) C dX5_rests_61 (by decide) (fun h2 => ?_) (fun h2 => ?_)
      · refine r_mask [true, false, false, false, true, true, true, true, false, true, true, true, true, true, true] (ls' := [some (.ref th), none, none, none, some (.int x4), some (.int x5), some (.int x6), some (.int x7), none, none, none, none, none, none, none]) rfl ?_
        exact wfX5_rests_b230 C hk x4 x5 x6 x7 P
      · refine r_iload C dX5_rests_64 rfl ?_
        refine r_iconst (v := 3) C dX5_rests_66 rfl ?_
        refine r_idiv C dX5_rests_67 (by decide) ?_
        refine r_ltI fun v3 => ?_
        refine r_istore (ls' := [some (.ref th), some (.int x1), some (.int x2), some (.int x3), some (.int x4), some (.int x5), some (.int x6), some (.int x7), some (.int x8), some (.int v3), none, none, none, none, none]) C dX5_rests_68 (Nat.le_of_ble_eq_true rfl) rfl rfl ?_
        refine r_iload C dX5_rests_70 rfl ?_
        refine r_iconst (v := 3) C dX5_rests_72 rfl ?_
        refine r_irem C dX5_rests_73 (by decide) ?_
        refine r_ltI fun v4 => ?_
        refine r_istore (ls' := [some (.ref th), some (.int x1), some (.int x2), some (.int x3), some (.int x4), some (.int x5), some (.int x6), some (.int x7), some (.int x8), some (.int v3), some (.int v4), none, none, none, none]) C dX5_rests_74 (Nat.le_of_ble_eq_true rfl) rfl rfl ?_
        refine r_iload C dX5_rests_76 rfl ?_
        refine r_iload C dX5_rests_78 rfl ?_
        refine r_icmpne (tgt := 87) C dX5_rests_80 (by decide) (fun h5 => ?_) (fun h5 => ?_)
        · refine r_iload C dX5_rests_87 rfl ?_
          refine r_ifne (tgt := 96) C dX5_rests_89 (by decide) (fun h6 => ?_) (fun h6 => ?_)
          · refine r_iload C dX5_rests_96 rfl ?_
            refine r_iconst (v := 1) C dX5_rests_98 rfl ?_
            refine r_icmpne (tgt := 106) C dX5_rests_99 (by decide) (fun h7 => ?_) (fun h7 => ?_)
            · refine r_iload_n C dX5_rests_106 rfl rfl ?_
              refine r_mask [true, true, true, true, true, true, true, true, true, true, false, true, true, true, true] (ls' := [some (.ref th), some (.int x1), some (.int x2), some (.int x3), some (.int x4), some (.int x5), some (.int x6), some (.int x7), some (.int x8), some (.int v3), none, none, none, none, none]) rfl ?_
              exact wfX5_rests_b107 C hk ih x1 x2 x3 x4 x5 x6 x7 x8 v3 x3 P
            · refine r_iload_n C dX5_rests_102 rfl rfl ?_
              refine r_goto (tgt := 107) C dX5_rests_103 (by decide) ?_
              refine r_mask [true, true, true, true, true, true, true, true, true, true, false, true, true, true, true] (ls' := [some (.ref th), some (.int x1), some (.int x2), some (.int x3), some (.int x4), some (.int x5), some (.int x6), some (.int x7), some (.int x8), some (.int v3), none, none, none, none, none]) rfl ?_
              exact wfX5_rests_b107 C hk ih x1 x2 x3 x4 x5 x6 x7 x8 v3 x2 P
          · refine r_iload_n C dX5_rests_92 rfl rfl ?_
            refine r_goto (tgt := 107) C dX5_rests_93 (by decide) ?_
            refine r_mask [true, true, true, true, true, true, true, true, true, true, false, true, true, true, true] (ls' := [some (.ref th), some (.int x1), some (.int x2), some (.int x3), some (.int x4), some (.int x5), some (.int x6), some (.int x7), some (.int x8), some (.int v3), none, none, none, none, none]) rfl ?_
            exact wfX5_rests_b107 C hk ih x1 x2 x3 x4 x5 x6 x7 x8 v3 x1 P
        · refine r_iconst (v := 0) C dX5_rests_83 rfl ?_
          refine r_goto (tgt := 107) C dX5_rests_84 (by decide) ?_
          refine r_mask [true, true, true, true, true, true, true, true, true, true, false, true, true, true, true] (ls' := [some (.ref th), some (.int x1), some (.int x2), some (.int x3), some (.int x4), some (.int x5), some (.int x6), some (.int x7), some (.int x8), some (.int v3), none, none, none, none, none]) rfl ?_
          exact wfX5_rests_b107 C hk ih x1 x2 x3 x4 x5 x6 x7 x8 v3 (0 : Int32) P
def fX5_rests_b41 (th : Nat)  (x1 : Int32) (x2 : Int32) (x3 : Int32) (x4 : Int32) (s0 : Int32) (P : mm_P) : Option (Int32 × mm_P) :=
  fX5_rests_b52 th mm_NF x1 x2 x3 x4 s0 (0 : Int32) (-1 : Int32) (0 : Int32) P
set_option maxHeartbeats 4000000 in
theorem wfX5_rests_b41 {E : mm_E} (C : mm_Cx E RX5 cX5_rests 15 (some .int) 1 22) {K : mm_K} {th : Nat} (hk : K.1 th = 5) {nx sl : Nat} (x1 : Int32) (x2 : Int32) (x3 : Int32) (x4 : Int32) (s0 : Int32) (P : mm_P) : mm_V E (mm_wwI K nx sl) 41 [some (.ref th), some (.int x1), some (.int x2), some (.int x3), some (.int x4), none, none, none, none, none, none, none, none, none, none] [.int s0] K P nx sl (fX5_rests_b41 th x1 x2 x3 x4 s0 P) := by
  unfold fX5_rests_b41
  refine r_istore (ls' := [some (.ref th), some (.int x1), some (.int x2), some (.int x3), some (.int x4), some (.int s0), none, none, none, none, none, none, none, none, none]) C dX5_rests_41 (Nat.le_of_ble_eq_true rfl) rfl rfl ?_
  refine r_iconst (v := 0) C dX5_rests_43 rfl ?_
  refine r_istore (ls' := [some (.ref th), some (.int x1), some (.int x2), some (.int x3), some (.int x4), some (.int s0), some (.int (0 : Int32)), none, none, none, none, none, none, none, none]) C dX5_rests_44 (Nat.le_of_ble_eq_true rfl) rfl rfl ?_
  refine r_iconst (v := -1) C dX5_rests_46 rfl ?_
  refine r_istore (ls' := [some (.ref th), some (.int x1), some (.int x2), some (.int x3), some (.int x4), some (.int s0), some (.int (0 : Int32)), some (.int (-1 : Int32)), none, none, none, none, none, none, none]) C dX5_rests_47 (Nat.le_of_ble_eq_true rfl) rfl rfl ?_
  refine r_iconst (v := 0) C dX5_rests_49 rfl ?_
  refine r_istore (ls' := [some (.ref th), some (.int x1), some (.int x2), some (.int x3), some (.int x4), some (.int s0), some (.int (0 : Int32)), some (.int (-1 : Int32)), some (.int (0 : Int32)), none, none, none, none, none, none]) C dX5_rests_50 (Nat.le_of_ble_eq_true rfl) rfl rfl ?_
  exact wfX5_rests_b52 C hk mm_NF x1 x2 x3 x4 s0 (0 : Int32) (-1 : Int32) (0 : Int32) P
def fX5_rests_b40 (th : Nat)  (x1 : Int32) (x2 : Int32) (x3 : Int32) (x4 : Int32) (P : mm_P) : Option (Int32 × mm_P) :=
  fX5_rests_b41 th x1 x2 x3 x4 (0 : Int32) P
set_option maxHeartbeats 4000000 in
theorem wfX5_rests_b40 {E : mm_E} (C : mm_Cx E RX5 cX5_rests 15 (some .int) 1 22) {K : mm_K} {th : Nat} (hk : K.1 th = 5) {nx sl : Nat} (x1 : Int32) (x2 : Int32) (x3 : Int32) (x4 : Int32) (P : mm_P) : mm_V E (mm_wwI K nx sl) 40 [some (.ref th), some (.int x1), some (.int x2), some (.int x3), some (.int x4), none, none, none, none, none, none, none, none, none, none] [] K P nx sl (fX5_rests_b40 th x1 x2 x3 x4 P) := by
  unfold fX5_rests_b40
  refine r_iconst (v := 0) C dX5_rests_40 rfl ?_
  exact wfX5_rests_b41 C hk x1 x2 x3 x4 (0 : Int32) P
def fX5_rests (th : Nat) (x1 : Int32) (x2 : Int32) (x3 : Int32) (x4 : Int32) (P : mm_P) : Option (Int32 × mm_P) :=
  mm_bd (fX5_within x1 (0 : Int32) (9 : Int32)) fun r1 =>
  if r1 = 0 then
  (fX5_rests_b40 th x1 x2 x3 x4 P)
  else
  (mm_bd (fX5_within x2 (0 : Int32) (9 : Int32)) fun r4 =>
  if r4 = 0 then
  (fX5_rests_b40 th x1 x2 x3 x4 P)
  else
  (mm_bd (fX5_within x3 (0 : Int32) (9 : Int32)) fun r7 =>
  if r7 = 0 then
  (fX5_rests_b40 th x1 x2 x3 x4 P)
  else
  (if x4 < (-1 : Int32) then
  (fX5_rests_b40 th x1 x2 x3 x4 P)
  else
  (fX5_rests_b41 th x1 x2 x3 x4 (1 : Int32) P))))
set_option maxHeartbeats 4000000 in
theorem mc_X5_rests {l : Launch} {K : mm_K} {P : mm_P} {th : Nat} {x1 : Int32} {x2 : Int32} {x3 : Int32} {x4 : Int32} {nx sl : Nat} {r : (Int32 × mm_P)} (hk : K.1 th = 5) (h : fX5_rests th x1 x2 x3 x4 P = some r) : mm_C l yX5_rests (ws_ yX5_rests cX5_rests 15 (some .int)) 1 22 [.ref th, .int x1, .int x2, .int x3, .int x4] K P nx sl (mm_wwI K nx sl r) :=
  mm_start (ls := [some (.ref th), some (.int x1), some (.int x2), some (.int x3), some (.int x4), none, none, none, none, none, none, none, none, none, none]) h (by decide) (Nat.le_of_ble_eq_true rfl) rfl (Nat.le_refl _) (Nat.le_refl _) rfl fun E hl9 _ _ _ C => by
  have C : mm_Cx E RX5 cX5_rests 15 (some .int) 1 22 := C
  unfold fX5_rests
  refine r_iload_n C dX5_rests_0 rfl rfl ?_
  refine r_iconst (v := 0) C dX5_rests_1 rfl ?_
  refine r_bipush (v := 9) C dX5_rests_2 rfl ?_
  refine r_bd fun r1 h2 => ?_
  refine r_callS (As := [.int x1, .int (0 : Int32), .int (9 : Int32)]) (st := []) C (mc_X5_within h2) cv_X5_349  rfl (Nat.le_of_ble_eq_true rfl) (Nat.le_of_ble_eq_true rfl) rfl (Nat.le_of_ble_eq_true rfl) dX5_rests_4 ?_
  refine r_ifeq (tgt := 40) C dX5_rests_7 (by decide) (fun h3 => ?_) (fun h3 => ?_)
  · exact wfX5_rests_b40 C hk x1 x2 x3 x4 P
  · refine r_iload_n C dX5_rests_10 rfl rfl ?_
    refine r_iconst (v := 0) C dX5_rests_11 rfl ?_
    refine r_bipush (v := 9) C dX5_rests_12 rfl ?_
    refine r_bd fun r4 h5 => ?_
    refine r_callS (As := [.int x2, .int (0 : Int32), .int (9 : Int32)]) (st := []) C (mc_X5_within h5) cv_X5_349  rfl (Nat.le_of_ble_eq_true rfl) (Nat.le_of_ble_eq_true rfl) rfl (Nat.le_of_ble_eq_true rfl) dX5_rests_14 ?_
    refine r_ifeq (tgt := 40) C dX5_rests_17 (by decide) (fun h6 => ?_) (fun h6 => ?_)
    · exact wfX5_rests_b40 C hk x1 x2 x3 x4 P
    · refine r_iload_n C dX5_rests_20 rfl rfl ?_
      refine r_iconst (v := 0) C dX5_rests_21 rfl ?_
      refine r_bipush (v := 9) C dX5_rests_22 rfl ?_
      refine r_bd fun r7 h8 => ?_
      refine r_callS (As := [.int x3, .int (0 : Int32), .int (9 : Int32)]) (st := []) C (mc_X5_within h8) cv_X5_349  rfl (Nat.le_of_ble_eq_true rfl) (Nat.le_of_ble_eq_true rfl) rfl (Nat.le_of_ble_eq_true rfl) dX5_rests_24 ?_
      refine r_ifeq (tgt := 40) C dX5_rests_27 (by decide) (fun h9 => ?_) (fun h9 => ?_)
      · exact wfX5_rests_b40 C hk x1 x2 x3 x4 P
      · refine r_iload C dX5_rests_30 rfl ?_
        refine r_iconst (v := -1) C dX5_rests_32 rfl ?_
        refine r_icmplt (tgt := 40) C dX5_rests_33 (by decide) (fun h10 => ?_) (fun h10 => ?_)
        · exact wfX5_rests_b40 C hk x1 x2 x3 x4 P
        · refine r_iconst (v := 1) C dX5_rests_36 rfl ?_
          refine r_goto (tgt := 41) C dX5_rests_37 (by decide) ?_
          exact wfX5_rests_b41 C hk x1 x2 x3 x4 (1 : Int32) P
/-! draw -/
def fX5_draw (th : Nat) (x1 : Int32) (P : mm_P) : Option (Int32 × mm_P) :=
  mm_lt (sJ P 677 th (mm_remL (((gJ P 677 th) * (1103515245 : Int64)) + (12345 : Int64)) (2147483648 : Int64))) fun P1 =>
  mm_gd (¬ x1.toInt64 = 0) <|
  some ((mm_remL ((gJ P1 677 th) / (65536 : Int64)) x1.toInt64).toInt32, P1)
set_option maxHeartbeats 4000000 in
theorem mc_X5_draw {l : Launch} {K : mm_K} {P : mm_P} {th : Nat} {x1 : Int32} {nx sl : Nat} {r : (Int32 × mm_P)} (hk : K.1 th = 5) (h : fX5_draw th x1 P = some r) : mm_C l yX5_draw (ws_ yX5_draw cX5_draw 2 (some .int)) 0 0 [.ref th, .int x1] K P nx sl (mm_wwI K nx sl r) :=
  mm_start (ls := [some (.ref th), some (.int x1)]) h (by decide) (Nat.le_of_ble_eq_true rfl) rfl (Nat.le_refl _) (Nat.le_refl _) rfl fun E hl9 _ _ _ C => by
  have C : mm_Cx E RX5 cX5_draw 2 (some .int) 0 0 := C
  unfold fX5_draw
  refine r_aload_n C dX5_draw_0 rfl rfl ?_
  refine r_aload_n C dX5_draw_1 rfl rfl ?_
  refine r_getJ (code := 677) C fl_X5_431 hk rfl dX5_draw_2 ?_
  refine r_ldc2 (v := 1103515245) C dX5_draw_5 q2177 ?_
  refine r_lmul C dX5_draw_8 ?_
  refine r_ldc2 (v := 12345) C dX5_draw_9 q2178 ?_
  refine r_ladd C dX5_draw_12 ?_
  refine r_ldc2 (v := 2147483648) C dX5_draw_13 q2179 ?_
  refine r_lrem C dX5_draw_16 (by decide) ?_
  refine r_putJ (code := 677) C fl_X5_431 hk rfl rfl dX5_draw_17 ?_
  refine r_ltP fun P1 => ?_
  refine r_aload_n C dX5_draw_20 rfl rfl ?_
  refine r_getJ (code := 677) C fl_X5_431 hk rfl dX5_draw_21 ?_
  refine r_ldc2 (v := 65536) C dX5_draw_24 q2180 ?_
  refine r_ldiv C dX5_draw_27 (by decide) ?_
  refine r_iload_n C dX5_draw_28 rfl rfl ?_
  refine r_i2l C dX5_draw_29 ?_
  refine r_gd fun h2 => ?_
  refine r_lrem C dX5_draw_30 h2 ?_
  refine r_l2i C dX5_draw_31 ?_
  exact r_iret C dX5_draw_32 rfl
/-! firstFree -/
def fX5_firstFree_b60 (th : Nat) (P : mm_P) (k15 : Int32 → Int32 → Int32 → Int32 → Int32 → Option Int32) (x2 : Int32) (x3 : Int32) (x5 : Int32) (x6 : Int32) (x7 : Int32) (s0 : Int32) (s1 : Int32) : Option Int32 :=
  mm_lt (s0 ||| s1) fun v1 =>
  if x7 = 0 then
  (mm_lt (x5 + (0 : Int32)) fun v3 =>
  k15 x2 x3 v1 v3 (x6 + (1 : Int32)))
  else
  (mm_lt (x5 + (1 : Int32)) fun v4 =>
  k15 x2 x3 v1 v4 (x6 + (1 : Int32)))
set_option maxHeartbeats 4000000 in
theorem wfX5_firstFree_b60 {E : mm_E} (C : mm_Cx E RX5 cX5_firstFree 8 (some .int) 3 67) {K : mm_K} {th : Nat} (hk : K.1 th = 5) {P : mm_P} {nx sl : Nat} {k15 : Int32 → Int32 → Int32 → Int32 → Int32 → Option Int32} (hk15 : ∀ (x2 : Int32) (x3 : Int32) (x4 : Int32) (x5 : Int32) (x6 : Int32), mm_V E (mm_wrI K P nx sl) 15 [none, none, some (.int x2), some (.int x3), some (.int x4), some (.int x5), some (.int x6), none] [] K P nx sl (k15 x2 x3 x4 x5 x6)) (x2 : Int32) (x3 : Int32) (x5 : Int32) (x6 : Int32) (x7 : Int32) (s0 : Int32) (s1 : Int32) : mm_V E (mm_wrI K P nx sl) 60 [none, none, some (.int x2), some (.int x3), none, some (.int x5), some (.int x6), some (.int x7)] [.int s1, .int s0] K P nx sl (fX5_firstFree_b60 th P k15 x2 x3 x5 x6 x7 s0 s1) := by
  unfold fX5_firstFree_b60
  refine r_ior C dX5_firstFree_60 ?_
  refine r_ltI fun v1 => ?_
  refine r_istore (ls' := [none, none, some (.int x2), some (.int x3), some (.int v1), some (.int x5), some (.int x6), some (.int x7)]) C dX5_firstFree_61 (Nat.le_of_ble_eq_true rfl) rfl rfl ?_
  refine r_iload C dX5_firstFree_63 rfl ?_
  refine r_iload C dX5_firstFree_65 rfl ?_
  refine r_ifeq (tgt := 74) C dX5_firstFree_67 (by decide) (fun h2 => ?_) (fun h2 => ?_)
  · refine r_iconst (v := 0) C dX5_firstFree_74 rfl ?_
    refine r_iadd C dX5_firstFree_75 ?_
    refine r_ltI fun v3 => ?_
    refine r_istore (ls' := [none, none, some (.int x2), some (.int x3), some (.int v1), some (.int v3), some (.int x6), some (.int x7)]) C dX5_firstFree_76 (Nat.le_of_ble_eq_true rfl) rfl rfl ?_
    refine r_iinc (v := 1) (ls' := [none, none, some (.int x2), some (.int x3), some (.int v1), some (.int v3), some (.int (x6 + (1 : Int32))), some (.int x7)]) C dX5_firstFree_78 rfl rfl (Nat.le_of_ble_eq_true rfl) rfl rfl ?_
    refine r_goto (tgt := 15) C dX5_firstFree_81 (by decide) ?_
    refine r_mask [true, true, true, true, true, true, true, false] (ls' := [none, none, some (.int x2), some (.int x3), some (.int v1), some (.int v3), some (.int (x6 + (1 : Int32))), none]) rfl ?_
    exact hk15 x2 x3 v1 v3 (x6 + (1 : Int32))
  · refine r_iconst (v := 1) C dX5_firstFree_70 rfl ?_
    refine r_goto (tgt := 75) C dX5_firstFree_71 (by decide) ?_
    refine r_iadd C dX5_firstFree_75 ?_
    refine r_ltI fun v4 => ?_
    refine r_istore (ls' := [none, none, some (.int x2), some (.int x3), some (.int v1), some (.int v4), some (.int x6), some (.int x7)]) C dX5_firstFree_76 (Nat.le_of_ble_eq_true rfl) rfl rfl ?_
    refine r_iinc (v := 1) (ls' := [none, none, some (.int x2), some (.int x3), some (.int v1), some (.int v4), some (.int (x6 + (1 : Int32))), some (.int x7)]) C dX5_firstFree_78 rfl rfl (Nat.le_of_ble_eq_true rfl) rfl rfl ?_
    refine r_goto (tgt := 15) C dX5_firstFree_81 (by decide) ?_
    refine r_mask [true, true, true, true, true, true, true, false] (ls' := [none, none, some (.int x2), some (.int x3), some (.int v1), some (.int v4), some (.int (x6 + (1 : Int32))), none]) rfl ?_
    exact hk15 x2 x3 v1 v4 (x6 + (1 : Int32))
def fX5_firstFree_b43 (th : Nat) (P : mm_P) (k15 : Int32 → Int32 → Int32 → Int32 → Int32 → Option Int32) (x2 : Int32) (x3 : Int32) (x4 : Int32) (x5 : Int32) (x6 : Int32) (s0 : Int32) : Option Int32 :=
  if s0 = 0 then
  (fX5_firstFree_b60 th P k15 x2 x3 x5 x6 s0 x4 (0 : Int32))
  else
  (fX5_firstFree_b60 th P k15 x2 x3 x5 x6 s0 x4 (mm_shl (1 : Int32) x6))
set_option maxHeartbeats 4000000 in
theorem wfX5_firstFree_b43 {E : mm_E} (C : mm_Cx E RX5 cX5_firstFree 8 (some .int) 3 67) {K : mm_K} {th : Nat} (hk : K.1 th = 5) {P : mm_P} {nx sl : Nat} {k15 : Int32 → Int32 → Int32 → Int32 → Int32 → Option Int32} (hk15 : ∀ (x2 : Int32) (x3 : Int32) (x4 : Int32) (x5 : Int32) (x6 : Int32), mm_V E (mm_wrI K P nx sl) 15 [none, none, some (.int x2), some (.int x3), some (.int x4), some (.int x5), some (.int x6), none] [] K P nx sl (k15 x2 x3 x4 x5 x6)) (x2 : Int32) (x3 : Int32) (x4 : Int32) (x5 : Int32) (x6 : Int32) (s0 : Int32) : mm_V E (mm_wrI K P nx sl) 43 [none, none, some (.int x2), some (.int x3), some (.int x4), some (.int x5), some (.int x6), none] [.int s0] K P nx sl (fX5_firstFree_b43 th P k15 x2 x3 x4 x5 x6 s0) := by
  unfold fX5_firstFree_b43
  refine r_istore (ls' := [none, none, some (.int x2), some (.int x3), some (.int x4), some (.int x5), some (.int x6), some (.int s0)]) C dX5_firstFree_43 (Nat.le_of_ble_eq_true rfl) rfl rfl ?_
  refine r_iload C dX5_firstFree_45 rfl ?_
  refine r_iload C dX5_firstFree_47 rfl ?_
  refine r_ifeq (tgt := 59) C dX5_firstFree_49 (by decide) (fun h1 => ?_) (fun h1 => ?_)
  · refine r_iconst (v := 0) C dX5_firstFree_59 rfl ?_
    refine r_mask [true, true, true, true, false, true, true, true] (ls' := [none, none, some (.int x2), some (.int x3), none, some (.int x5), some (.int x6), some (.int s0)]) rfl ?_
    exact wfX5_firstFree_b60 C hk hk15 x2 x3 x5 x6 s0 x4 (0 : Int32)
  · refine r_iconst (v := 1) C dX5_firstFree_52 rfl ?_
    refine r_iload C dX5_firstFree_53 rfl ?_
    refine r_ishl C dX5_firstFree_55 ?_
    refine r_goto (tgt := 60) C dX5_firstFree_56 (by decide) ?_
    refine r_mask [true, true, true, true, false, true, true, true] (ls' := [none, none, some (.int x2), some (.int x3), none, some (.int x5), some (.int x6), some (.int s0)]) rfl ?_
    exact wfX5_firstFree_b60 C hk hk15 x2 x3 x5 x6 s0 x4 (mm_shl (1 : Int32) x6)
def fX5_firstFree_b42 (th : Nat) (P : mm_P) (k15 : Int32 → Int32 → Int32 → Int32 → Int32 → Option Int32) (x2 : Int32) (x3 : Int32) (x4 : Int32) (x5 : Int32) (x6 : Int32) : Option Int32 :=
  fX5_firstFree_b43 th P k15 x2 x3 x4 x5 x6 (0 : Int32)
set_option maxHeartbeats 4000000 in
theorem wfX5_firstFree_b42 {E : mm_E} (C : mm_Cx E RX5 cX5_firstFree 8 (some .int) 3 67) {K : mm_K} {th : Nat} (hk : K.1 th = 5) {P : mm_P} {nx sl : Nat} {k15 : Int32 → Int32 → Int32 → Int32 → Int32 → Option Int32} (hk15 : ∀ (x2 : Int32) (x3 : Int32) (x4 : Int32) (x5 : Int32) (x6 : Int32), mm_V E (mm_wrI K P nx sl) 15 [none, none, some (.int x2), some (.int x3), some (.int x4), some (.int x5), some (.int x6), none] [] K P nx sl (k15 x2 x3 x4 x5 x6)) (x2 : Int32) (x3 : Int32) (x4 : Int32) (x5 : Int32) (x6 : Int32) : mm_V E (mm_wrI K P nx sl) 42 [none, none, some (.int x2), some (.int x3), some (.int x4), some (.int x5), some (.int x6), none] [] K P nx sl (fX5_firstFree_b42 th P k15 x2 x3 x4 x5 x6) := by
  unfold fX5_firstFree_b42
  refine r_iconst (v := 0) C dX5_firstFree_42 rfl ?_
  exact wfX5_firstFree_b43 C hk hk15 x2 x3 x4 x5 x6 (0 : Int32)
def fX5_firstFree_b15 (th : Nat) (P : mm_P)  : Nat → Int32 → Int32 → Int32 → Int32 → Int32 → Option Int32
  | 0, _, _, _, _, _ => none
  | n + 1, x2, x3, x4, x5, x6 =>
  if (8 : Int32) ≤ x6 then
  (some (x4))
  else
  (if x2 ≤ x5 then
  (fX5_firstFree_b42 th P (fX5_firstFree_b15 th P n) x2 x3 x4 x5 x6)
  else
  (if ((mm_shr x3 x6) &&& (1 : Int32)) ≠ (1 : Int32) then
  (fX5_firstFree_b42 th P (fX5_firstFree_b15 th P n) x2 x3 x4 x5 x6)
  else
  (fX5_firstFree_b43 th P (fX5_firstFree_b15 th P n) x2 x3 x4 x5 x6 (1 : Int32))))
set_option maxHeartbeats 4000000 in
theorem wfX5_firstFree_b15 {E : mm_E} (C : mm_Cx E RX5 cX5_firstFree 8 (some .int) 3 67) {K : mm_K} {th : Nat} (hk : K.1 th = 5) {P : mm_P} {nx sl : Nat} : ∀ (n : Nat), ∀ (x2 : Int32) (x3 : Int32) (x4 : Int32) (x5 : Int32) (x6 : Int32), mm_V E (mm_wrI K P nx sl) 15 [none, none, some (.int x2), some (.int x3), some (.int x4), some (.int x5), some (.int x6), none] [] K P nx sl (fX5_firstFree_b15 th P n x2 x3 x4 x5 x6) := by
  intro n
  induction n with
  | zero => intro x2 x3 x4 x5 x6; exact r_none
  | succ n ih =>
    intro x2 x3 x4 x5 x6
    rw [fX5_firstFree_b15]
    refine r_iload C dX5_firstFree_15 rfl ?_
    refine r_bipush (v := 8) C dX5_firstFree_17 rfl ?_
    refine r_icmpge (tgt := 84) C dX5_firstFree_19 (by decide) (fun h1 => ?_) (fun h1 => ?_)
    · refine r_iload C dX5_firstFree_84 rfl ?_
      exact r_iret C dX5_firstFree_86 rfl
    · refine r_iload C dX5_firstFree_22 rfl ?_
      refine r_iload_n C dX5_firstFree_24 rfl rfl ?_
      refine r_icmpge (tgt := 42) C dX5_firstFree_25 (by decide) (fun h2 => ?_) (fun h2 => ?_)
      · exact wfX5_firstFree_b42 C hk ih x2 x3 x4 x5 x6
      · refine r_iload_n C dX5_firstFree_28 rfl rfl ?_
        refine r_iload C dX5_firstFree_29 rfl ?_
        refine r_ishr C dX5_firstFree_31 ?_
        refine r_iconst (v := 1) C dX5_firstFree_32 rfl ?_
        refine r_iand C dX5_firstFree_33 ?_
        refine r_iconst (v := 1) C dX5_firstFree_34 rfl ?_
        refine r_icmpne (tgt := 42) C dX5_firstFree_35 (by decide) (fun h3 => ?_) (fun h3 => ?_)
        · exact wfX5_firstFree_b42 C hk ih x2 x3 x4 x5 x6
        · refine r_iconst (v := 1) C dX5_firstFree_38 rfl ?_
          refine r_goto (tgt := 43) C dX5_firstFree_39 (by decide) ?_
          exact wfX5_firstFree_b43 C hk ih x2 x3 x4 x5 x6 (1 : Int32)
def fX5_firstFree (th : Nat) (P : mm_P) (x1 : Int32) (x2 : Int32) : Option Int32 :=
  mm_bd (fX5_freePegs th P x1) fun r1 =>
  fX5_firstFree_b15 th P mm_NF x2 r1 (0 : Int32) (0 : Int32) (0 : Int32)
set_option maxHeartbeats 4000000 in
theorem mc_X5_firstFree {l : Launch} {K : mm_K} {P : mm_P} {th : Nat} {x1 : Int32} {x2 : Int32} {nx sl : Nat} {r : Int32} (hk : K.1 th = 5) (h : fX5_firstFree th P x1 x2 = some r) : mm_C l yX5_firstFree (ws_ yX5_firstFree cX5_firstFree 8 (some .int)) 3 67 [.ref th, .int x1, .int x2] K P nx sl (mm_wrI K P nx sl r) :=
  mm_start (ls := [some (.ref th), some (.int x1), some (.int x2), none, none, none, none, none]) h (by decide) (Nat.le_of_ble_eq_true rfl) rfl (Nat.le_refl _) (Nat.le_refl _) rfl fun E hl9 _ _ _ C => by
  have C : mm_Cx E RX5 cX5_firstFree 8 (some .int) 3 67 := C
  unfold fX5_firstFree
  refine r_aload_n C dX5_firstFree_0 rfl rfl ?_
  refine r_iload_n C dX5_firstFree_1 rfl rfl ?_
  refine r_bd fun r1 h2 => ?_
  refine r_callV (As := [.int x1]) (st := []) C (mc_X5_freePegs hk h2) cv_X5_361 hk rfl (Nat.le_of_ble_eq_true rfl) (Nat.le_of_ble_eq_true rfl) rfl (Nat.le_of_ble_eq_true rfl) dX5_firstFree_2 ?_
  refine r_istore_n (ls' := [some (.ref th), some (.int x1), some (.int x2), some (.int r1), none, none, none, none]) C dX5_firstFree_5 rfl (Nat.le_of_ble_eq_true rfl) rfl rfl ?_
  refine r_iconst (v := 0) C dX5_firstFree_6 rfl ?_
  refine r_istore (ls' := [some (.ref th), some (.int x1), some (.int x2), some (.int r1), some (.int (0 : Int32)), none, none, none]) C dX5_firstFree_7 (Nat.le_of_ble_eq_true rfl) rfl rfl ?_
  refine r_iconst (v := 0) C dX5_firstFree_9 rfl ?_
  refine r_istore (ls' := [some (.ref th), some (.int x1), some (.int x2), some (.int r1), some (.int (0 : Int32)), some (.int (0 : Int32)), none, none]) C dX5_firstFree_10 (Nat.le_of_ble_eq_true rfl) rfl rfl ?_
  refine r_iconst (v := 0) C dX5_firstFree_12 rfl ?_
  refine r_istore (ls' := [some (.ref th), some (.int x1), some (.int x2), some (.int r1), some (.int (0 : Int32)), some (.int (0 : Int32)), some (.int (0 : Int32)), none]) C dX5_firstFree_13 (Nat.le_of_ble_eq_true rfl) rfl rfl ?_
  refine r_mask [false, false, true, true, true, true, true, true] (ls' := [none, none, some (.int x2), some (.int r1), some (.int (0 : Int32)), some (.int (0 : Int32)), some (.int (0 : Int32)), none]) rfl ?_
  exact wfX5_firstFree_b15 C hk mm_NF x2 r1 (0 : Int32) (0 : Int32) (0 : Int32)
/-! drawsCloth -/
def fX5_drawsCloth (th : Nat)  (P : mm_P) : Option mm_P :=
  mm_bd (fX5_cloths th P) fun r1 =>
  mm_bd (fX5_draw th r1 P) fun r3 =>
  mm_bd (fX5_isHung th r3.2 (1188 : Int32) r3.1) fun r5 =>
  if r5 = 0 then
  (mm_bd (fX5_needs th r3.2 r3.1) fun r8 =>
  mm_bd (fX5_firstFree th r3.2 (1188 : Int32) r8) fun r10 =>
  mm_bd (fX5_bits r10) fun r12 =>
  mm_bd (fX5_needs th r3.2 r3.1) fun r14 =>
  if r12 ≠ r14 then
  (some r3.2)
  else
  (mm_bd (fX5_mayHang th r3.2 (1188 : Int32) r3.1 r10) fun r17 =>
  if r17 = 0 then
  (some r3.2)
  else
  (mm_gd (mm_in ((1202 : Int32) + r3.1) 1242) <|
  mm_lt (sA r3.2 662 th ((1202 : Int32) + r3.1).toNatClampNeg r10) fun P21 =>
  some P21)))
  else
  (mm_bd (fX5_draw th (4 : Int32) r3.2) fun r22 =>
  if r22.1 ≠ 0 then
  (mm_gd (mm_in ((1202 : Int32) + r3.1) 1242) <|
  mm_gd (mm_in ((1202 : Int32) + r3.1) 1242) <|
  mm_lt (sA r22.2 662 th ((1202 : Int32) + r3.1).toNatClampNeg (gA r22.2 662 th ((1202 : Int32) + r3.1).toNatClampNeg)) fun P27 =>
  some P27)
  else
  (mm_gd (mm_in ((1202 : Int32) + r3.1) 1242) <|
  mm_lt (sA r22.2 662 th ((1202 : Int32) + r3.1).toNatClampNeg (0 : Int32)) fun P29 =>
  some P29))
set_option maxHeartbeats 4000000 in
theorem mc_X5_drawsCloth {l : Launch} {K : mm_K} {P : mm_P} {th : Nat}  {nx sl : Nat} {r : mm_P} (hk : K.1 th = 5) (h : fX5_drawsCloth th P = some r) : mm_C l yX5_drawsCloth (ws_ yX5_drawsCloth cX5_drawsCloth 3 none) 4 94 [.ref th] K P nx sl (mm_wwV K nx sl r) :=
  mm_start (ls := [some (.ref th), none, none]) h (by decide) (Nat.le_of_ble_eq_true rfl) rfl (Nat.le_refl _) (Nat.le_refl _) rfl fun E hl9 _ _ _ C => by
  have C : mm_Cx E RX5 cX5_drawsCloth 3 none 4 94 := C
  unfold fX5_drawsCloth
  refine r_aload_n C dX5_drawsCloth_0 rfl rfl ?_
  refine r_aload_n C dX5_drawsCloth_1 rfl rfl ?_
  refine r_bd fun r1 h2 => ?_
  refine r_callV (As := []) (st := [.ref th]) C (mc_X5_cloths hk h2) cv_X5_292 hk rfl (Nat.le_of_ble_eq_true rfl) (Nat.le_of_ble_eq_true rfl) rfl (Nat.le_of_ble_eq_true rfl) dX5_drawsCloth_2 ?_
  refine r_bd fun r3 h4 => ?_
  refine r_callV (As := [.int r1]) (st := []) C (mc_X5_draw hk h4) cv_X5_443 hk rfl (Nat.le_of_ble_eq_true rfl) (Nat.le_of_ble_eq_true rfl) rfl (Nat.le_of_ble_eq_true rfl) dX5_drawsCloth_5 ?_
  refine r_istore_n (ls' := [some (.ref th), some (.int r3.1), none]) C dX5_drawsCloth_8 rfl (Nat.le_of_ble_eq_true rfl) rfl rfl ?_
  refine r_aload_n C dX5_drawsCloth_9 rfl rfl ?_
  refine r_sipush (v := 1188) C dX5_drawsCloth_10 rfl ?_
  refine r_iload_n C dX5_drawsCloth_13 rfl rfl ?_
  refine r_bd fun r5 h6 => ?_
  refine r_callV (As := [.int (1188 : Int32), .int r3.1]) (st := []) C (mc_X5_isHung hk h6) cv_X5_304 hk rfl (Nat.le_of_ble_eq_true rfl) (Nat.le_of_ble_eq_true rfl) rfl (Nat.le_of_ble_eq_true rfl) dX5_drawsCloth_14 ?_
  refine r_ifeq (tgt := 53) C dX5_drawsCloth_17 (by decide) (fun h7 => ?_) (fun h7 => ?_)
  · refine r_aload_n C dX5_drawsCloth_53 rfl rfl ?_
    refine r_sipush (v := 1188) C dX5_drawsCloth_54 rfl ?_
    refine r_aload_n C dX5_drawsCloth_57 rfl rfl ?_
    refine r_iload_n C dX5_drawsCloth_58 rfl rfl ?_
    refine r_bd fun r8 h9 => ?_
    refine r_callV (As := [.int r3.1]) (st := [.int (1188 : Int32), .ref th]) C (mc_X5_needs hk h9) cv_X5_301 hk rfl (Nat.le_of_ble_eq_true rfl) (Nat.le_of_ble_eq_true rfl) rfl (Nat.le_of_ble_eq_true rfl) dX5_drawsCloth_59 ?_
    refine r_bd fun r10 h11 => ?_
    refine r_callV (As := [.int (1188 : Int32), .int r8]) (st := []) C (mc_X5_firstFree hk h11) cv_X5_446 hk rfl (Nat.le_of_ble_eq_true rfl) (Nat.le_of_ble_eq_true rfl) rfl (Nat.le_of_ble_eq_true rfl) dX5_drawsCloth_62 ?_
    refine r_istore_n (ls' := [some (.ref th), some (.int r3.1), some (.int r10)]) C dX5_drawsCloth_65 rfl (Nat.le_of_ble_eq_true rfl) rfl rfl ?_
    refine r_iload_n C dX5_drawsCloth_66 rfl rfl ?_
    refine r_bd fun r12 h13 => ?_
    refine r_callS (As := [.int r10]) (st := []) C (mc_X5_bits h13) cv_X5_298  rfl (Nat.le_of_ble_eq_true rfl) (Nat.le_of_ble_eq_true rfl) rfl (Nat.le_of_ble_eq_true rfl) dX5_drawsCloth_67 ?_
    refine r_aload_n C dX5_drawsCloth_70 rfl rfl ?_
    refine r_iload_n C dX5_drawsCloth_71 rfl rfl ?_
    refine r_bd fun r14 h15 => ?_
    refine r_callV (As := [.int r3.1]) (st := [.int r12]) C (mc_X5_needs hk h15) cv_X5_301 hk rfl (Nat.le_of_ble_eq_true rfl) (Nat.le_of_ble_eq_true rfl) rfl (Nat.le_of_ble_eq_true rfl) dX5_drawsCloth_72 ?_
    refine r_icmpne (tgt := 101) C dX5_drawsCloth_75 (by decide) (fun h16 => ?_) (fun h16 => ?_)
    · exact r_vret C dX5_drawsCloth_101 rfl
    · refine r_aload_n C dX5_drawsCloth_78 rfl rfl ?_
      refine r_sipush (v := 1188) C dX5_drawsCloth_79 rfl ?_
      refine r_iload_n C dX5_drawsCloth_82 rfl rfl ?_
      refine r_iload_n C dX5_drawsCloth_83 rfl rfl ?_
      refine r_bd fun r17 h18 => ?_
      refine r_callV (As := [.int (1188 : Int32), .int r3.1, .int r10]) (st := []) C (mc_X5_mayHang hk h18) cv_X5_367 hk rfl (Nat.le_of_ble_eq_true rfl) (Nat.le_of_ble_eq_true rfl) rfl (Nat.le_of_ble_eq_true rfl) dX5_drawsCloth_84 ?_
      refine r_ifeq (tgt := 101) C dX5_drawsCloth_87 (by decide) (fun h19 => ?_) (fun h19 => ?_)
      · exact r_vret C dX5_drawsCloth_101 rfl
      · refine r_aload_n C dX5_drawsCloth_90 rfl rfl ?_
        refine r_getA C fl_X5_113 hk dX5_drawsCloth_91 ?_
        refine r_sipush (v := 1202) C dX5_drawsCloth_94 rfl ?_
        refine r_iload_n C dX5_drawsCloth_97 rfl rfl ?_
        refine r_iadd C dX5_drawsCloth_98 ?_
        refine r_iload_n C dX5_drawsCloth_99 rfl rfl ?_
        refine r_iast C (rg_662 hk) (mm_ro_of (k := 5) hk rfl) rfl dX5_drawsCloth_100 fun h20 => ?_
        refine r_ltP fun P21 => ?_
        exact r_vret C dX5_drawsCloth_101 rfl
  · refine r_aload_n C dX5_drawsCloth_20 rfl rfl ?_
    refine r_getA C fl_X5_113 hk dX5_drawsCloth_21 ?_
    refine r_sipush (v := 1202) C dX5_drawsCloth_24 rfl ?_
    refine r_iload_n C dX5_drawsCloth_27 rfl rfl ?_
    refine r_iadd C dX5_drawsCloth_28 ?_
    refine r_aload_n C dX5_drawsCloth_29 rfl rfl ?_
    refine r_iconst (v := 4) C dX5_drawsCloth_30 rfl ?_
    refine r_bd fun r22 h23 => ?_
    refine r_callV (As := [.int (4 : Int32)]) (st := [.int ((1202 : Int32) + r3.1), .ref (th + 14)]) C (mc_X5_draw hk h23) cv_X5_443 hk rfl (Nat.le_of_ble_eq_true rfl) (Nat.le_of_ble_eq_true rfl) rfl (Nat.le_of_ble_eq_true rfl) dX5_drawsCloth_31 ?_
    refine r_ifne (tgt := 41) C dX5_drawsCloth_34 (by decide) (fun h24 => ?_) (fun h24 => ?_)
    · refine r_aload_n C dX5_drawsCloth_41 rfl rfl ?_
      refine r_getA C fl_X5_113 hk dX5_drawsCloth_42 ?_
      refine r_sipush (v := 1202) C dX5_drawsCloth_45 rfl ?_
      refine r_iload_n C dX5_drawsCloth_48 rfl rfl ?_
      refine r_iadd C dX5_drawsCloth_49 ?_
      refine r_iald C (rg_662 hk) rfl dX5_drawsCloth_50 fun h25 => ?_
      refine r_iast C (rg_662 hk) (mm_ro_of (k := 5) hk rfl) rfl dX5_drawsCloth_51 fun h26 => ?_
      refine r_ltP fun P27 => ?_
      exact r_vret C dX5_drawsCloth_52 rfl
    · refine r_iconst (v := 0) C dX5_drawsCloth_37 rfl ?_
      refine r_goto (tgt := 51) C dX5_drawsCloth_38 (by decide) ?_
      refine r_iast C (rg_662 hk) (mm_ro_of (k := 5) hk rfl) rfl dX5_drawsCloth_51 fun h28 => ?_
      refine r_ltP fun P29 => ?_
      exact r_vret C dX5_drawsCloth_52 rfl
/-! decades -/
def fX5_decades_b105 (th : Nat) (k62 : Int32 → Int32 → Int32 → Int32 → Int32 → mm_P → Option (Int32 × mm_P)) (x2 : Int32) (x3 : Int32) (x4 : Int32) (x6 : Int32) (s0 : Int32) (s2 : Int32) (s3 : Int32) (P : mm_P) : Option (Int32 × mm_P) :=
  mm_bd (fX5_passes th s2 s3 P) fun r1 =>
  mm_lt (s0 + r1.1) fun v3 =>
  mm_bd (fX5_lawsOf th r1.2 (1188 : Int32)) fun r4 =>
  mm_bd (fX5_bits r4) fun r6 =>
  mm_lt (x4 + r6) fun v8 =>
  k62 x2 x3 v8 v3 (x6 + (1 : Int32)) r1.2
set_option maxHeartbeats 4000000 in
theorem wfX5_decades_b105 {E : mm_E} (C : mm_Cx E RX5 cX5_decades 7 (some .int) 5 121) {K : mm_K} {th : Nat} (hk : K.1 th = 5) {nx sl : Nat} {k62 : Int32 → Int32 → Int32 → Int32 → Int32 → mm_P → Option (Int32 × mm_P)} (hk62 : ∀ (x2 : Int32) (x3 : Int32) (x4 : Int32) (x5 : Int32) (x6 : Int32) (P : mm_P), mm_V E (mm_wwI K nx sl) 62 [some (.ref th), none, some (.int x2), some (.int x3), some (.int x4), some (.int x5), some (.int x6)] [] K P nx sl (k62 x2 x3 x4 x5 x6 P)) (x2 : Int32) (x3 : Int32) (x4 : Int32) (x6 : Int32) (s0 : Int32) (s2 : Int32) (s3 : Int32) (P : mm_P) : mm_V E (mm_wwI K nx sl) 105 [some (.ref th), none, some (.int x2), some (.int x3), some (.int x4), none, some (.int x6)] [.int s3, .int s2, .ref th, .int s0] K P nx sl (fX5_decades_b105 th k62 x2 x3 x4 x6 s0 s2 s3 P) := by
  unfold fX5_decades_b105
  refine r_bd fun r1 h2 => ?_
  refine r_callV (As := [.int s2, .int s3]) (st := [.int s0]) C (mc_X5_passes hk h2) cv_X5_379 hk rfl (Nat.le_of_ble_eq_true rfl) (Nat.le_of_ble_eq_true rfl) rfl (Nat.le_of_ble_eq_true rfl) dX5_decades_105 ?_
  refine r_iadd C dX5_decades_108 ?_
  refine r_ltI fun v3 => ?_
  refine r_istore (ls' := [some (.ref th), none, some (.int x2), some (.int x3), some (.int x4), some (.int v3), some (.int x6)]) C dX5_decades_109 (Nat.le_of_ble_eq_true rfl) rfl rfl ?_
  refine r_iload C dX5_decades_111 rfl ?_
  refine r_aload_n C dX5_decades_113 rfl rfl ?_
  refine r_sipush (v := 1188) C dX5_decades_114 rfl ?_
  refine r_bd fun r4 h5 => ?_
  refine r_callV (As := [.int (1188 : Int32)]) (st := [.int x4]) C (mc_X5_lawsOf hk h5) cv_X5_358 hk rfl (Nat.le_of_ble_eq_true rfl) (Nat.le_of_ble_eq_true rfl) rfl (Nat.le_of_ble_eq_true rfl) dX5_decades_117 ?_
  refine r_bd fun r6 h7 => ?_
  refine r_callS (As := [.int r4]) (st := [.int x4]) C (mc_X5_bits h7) cv_X5_298  rfl (Nat.le_of_ble_eq_true rfl) (Nat.le_of_ble_eq_true rfl) rfl (Nat.le_of_ble_eq_true rfl) dX5_decades_120 ?_
  refine r_iadd C dX5_decades_123 ?_
  refine r_ltI fun v8 => ?_
  refine r_istore (ls' := [some (.ref th), none, some (.int x2), some (.int x3), some (.int v8), some (.int v3), some (.int x6)]) C dX5_decades_124 (Nat.le_of_ble_eq_true rfl) rfl rfl ?_
  refine r_iinc (v := 1) (ls' := [some (.ref th), none, some (.int x2), some (.int x3), some (.int v8), some (.int v3), some (.int (x6 + (1 : Int32)))]) C dX5_decades_126 rfl rfl (Nat.le_of_ble_eq_true rfl) rfl rfl ?_
  refine r_goto (tgt := 62) C dX5_decades_129 (by decide) ?_
  exact hk62 x2 x3 v8 v3 (x6 + (1 : Int32)) r1.2
def fX5_decades_b79 (th : Nat) (k62 : Int32 → Int32 → Int32 → Int32 → Int32 → mm_P → Option (Int32 × mm_P)) (x2 : Int32) (x3 : Int32) (x4 : Int32) (x5 : Int32) (x6 : Int32) (P : mm_P) : Option (Int32 × mm_P) :=
  mm_bd (fX5_draw th (10 : Int32) P) fun r1 =>
  mm_gd (mm_in (4 : Int32) 200) <|
  if (gA r1.2 650 th (4 : Int32).toNatClampNeg) ≤ r1.1 then
  (fX5_decades_b105 th k62 x2 x3 x4 x6 x5 (1188 : Int32) (0 : Int32) r1.2)
  else
  (fX5_decades_b105 th k62 x2 x3 x4 x6 x5 (1188 : Int32) (1 : Int32) r1.2)
set_option maxHeartbeats 4000000 in
theorem wfX5_decades_b79 {E : mm_E} (C : mm_Cx E RX5 cX5_decades 7 (some .int) 5 121) {K : mm_K} {th : Nat} (hk : K.1 th = 5) {nx sl : Nat} {k62 : Int32 → Int32 → Int32 → Int32 → Int32 → mm_P → Option (Int32 × mm_P)} (hk62 : ∀ (x2 : Int32) (x3 : Int32) (x4 : Int32) (x5 : Int32) (x6 : Int32) (P : mm_P), mm_V E (mm_wwI K nx sl) 62 [some (.ref th), none, some (.int x2), some (.int x3), some (.int x4), some (.int x5), some (.int x6)] [] K P nx sl (k62 x2 x3 x4 x5 x6 P)) (x2 : Int32) (x3 : Int32) (x4 : Int32) (x5 : Int32) (x6 : Int32) (P : mm_P) : mm_V E (mm_wwI K nx sl) 79 [some (.ref th), none, some (.int x2), some (.int x3), some (.int x4), some (.int x5), some (.int x6)] [] K P nx sl (fX5_decades_b79 th k62 x2 x3 x4 x5 x6 P) := by
  unfold fX5_decades_b79
  refine r_iload C dX5_decades_79 rfl ?_
  refine r_aload_n C dX5_decades_81 rfl rfl ?_
  refine r_sipush (v := 1188) C dX5_decades_82 rfl ?_
  refine r_aload_n C dX5_decades_85 rfl rfl ?_
  refine r_bipush (v := 10) C dX5_decades_86 rfl ?_
  refine r_bd fun r1 h2 => ?_
  refine r_callV (As := [.int (10 : Int32)]) (st := [.int (1188 : Int32), .ref th, .int x5]) C (mc_X5_draw hk h2) cv_X5_443 hk rfl (Nat.le_of_ble_eq_true rfl) (Nat.le_of_ble_eq_true rfl) rfl (Nat.le_of_ble_eq_true rfl) dX5_decades_88 ?_
  refine r_aload_n C dX5_decades_91 rfl rfl ?_
  refine r_getA C fl_X5_89 hk dX5_decades_92 ?_
  refine r_iconst (v := 4) C dX5_decades_95 rfl ?_
  refine r_iald C (rg_650 hk) rfl dX5_decades_96 fun h3 => ?_
  refine r_icmpge (tgt := 104) C dX5_decades_97 (by decide) (fun h4 => ?_) (fun h4 => ?_)
  · refine r_iconst (v := 0) C dX5_decades_104 rfl ?_
    refine r_mask [true, true, true, true, true, false, true] (ls' := [some (.ref th), none, some (.int x2), some (.int x3), some (.int x4), none, some (.int x6)]) rfl ?_
    exact wfX5_decades_b105 C hk hk62 x2 x3 x4 x6 x5 (1188 : Int32) (0 : Int32) r1.2
  · refine r_iconst (v := 1) C dX5_decades_100 rfl ?_
    refine r_goto (tgt := 105) C dX5_decades_101 (by decide) ?_
    refine r_mask [true, true, true, true, true, false, true] (ls' := [some (.ref th), none, some (.int x2), some (.int x3), some (.int x4), none, some (.int x6)]) rfl ?_
    exact wfX5_decades_b105 C hk hk62 x2 x3 x4 x6 x5 (1188 : Int32) (1 : Int32) r1.2
def fX5_decades_b62 (th : Nat)  : Nat → Int32 → Int32 → Int32 → Int32 → Int32 → mm_P → Option (Int32 × mm_P)
  | 0, _, _, _, _, _, _ => none
  | n + 1, x2, x3, x4, x5, x6, P =>
  if x2 ≤ x6 then
  (if x3 ≠ 0 then
  (if x3 ≠ (1 : Int32) then
  (mm_bd (fX5_gripsOf th P (1188 : Int32) (255 : Int32)) fun r4 =>
  some (r4, P))
  else
  (some (x5, P)))
  else
  (some (x4, P)))
  else
  (mm_bd (fX5_cloths th P) fun r6 =>
  if r6 ≤ 0 then
  (fX5_decades_b79 th (fX5_decades_b62 th n) x2 x3 x4 x5 x6 P)
  else
  (mm_bd (fX5_drawsCloth th P) fun r9 =>
  fX5_decades_b79 th (fX5_decades_b62 th n) x2 x3 x4 x5 x6 r9))
set_option maxHeartbeats 4000000 in
theorem wfX5_decades_b62 {E : mm_E} (C : mm_Cx E RX5 cX5_decades 7 (some .int) 5 121) {K : mm_K} {th : Nat} (hk : K.1 th = 5) {nx sl : Nat} : ∀ (n : Nat), ∀ (x2 : Int32) (x3 : Int32) (x4 : Int32) (x5 : Int32) (x6 : Int32) (P : mm_P), mm_V E (mm_wwI K nx sl) 62 [some (.ref th), none, some (.int x2), some (.int x3), some (.int x4), some (.int x5), some (.int x6)] [] K P nx sl (fX5_decades_b62 th n x2 x3 x4 x5 x6 P) := by
  intro n
  induction n with
  | zero => intro x2 x3 x4 x5 x6 P; exact r_none
  | succ n ih =>
    intro x2 x3 x4 x5 x6 P
    rw [fX5_decades_b62]
    refine r_iload C dX5_decades_62 rfl ?_
    refine r_iload_n C dX5_decades_64 rfl rfl ?_
    refine r_icmpge (tgt := 132) C dX5_decades_65 (by decide) (fun h1 => ?_) (fun h1 => ?_)
    · refine r_iload_n C dX5_decades_132 rfl rfl ?_
      refine r_ifne (tgt := 141) C dX5_decades_133 (by decide) (fun h2 => ?_) (fun h2 => ?_)
      · refine r_iload_n C dX5_decades_141 rfl rfl ?_
        refine r_iconst (v := 1) C dX5_decades_142 rfl ?_
        refine r_icmpne (tgt := 151) C dX5_decades_143 (by decide) (fun h3 => ?_) (fun h3 => ?_)
        · refine r_aload_n C dX5_decades_151 rfl rfl ?_
          refine r_sipush (v := 1188) C dX5_decades_152 rfl ?_
          refine r_sipush (v := 255) C dX5_decades_155 rfl ?_
          refine r_bd fun r4 h5 => ?_
          refine r_callV (As := [.int (1188 : Int32), .int (255 : Int32)]) (st := []) C (mc_X5_gripsOf hk h5) cv_X5_320 hk rfl (Nat.le_of_ble_eq_true rfl) (Nat.le_of_ble_eq_true rfl) rfl (Nat.le_of_ble_eq_true rfl) dX5_decades_158 ?_
          exact r_iret C dX5_decades_161 rfl
        · refine r_iload C dX5_decades_146 rfl ?_
          refine r_goto (tgt := 161) C dX5_decades_148 (by decide) ?_
          exact r_iret C dX5_decades_161 rfl
      · refine r_iload C dX5_decades_136 rfl ?_
        refine r_goto (tgt := 161) C dX5_decades_138 (by decide) ?_
        exact r_iret C dX5_decades_161 rfl
    · refine r_aload_n C dX5_decades_68 rfl rfl ?_
      refine r_bd fun r6 h7 => ?_
      refine r_callV (As := []) (st := []) C (mc_X5_cloths hk h7) cv_X5_292 hk rfl (Nat.le_of_ble_eq_true rfl) (Nat.le_of_ble_eq_true rfl) rfl (Nat.le_of_ble_eq_true rfl) dX5_decades_69 ?_
      refine r_ifle (tgt := 79) C dX5_decades_72 (by decide) (fun h8 => ?_) (fun h8 => ?_)
      · exact wfX5_decades_b79 C hk ih x2 x3 x4 x5 x6 P
      · refine r_aload_n C dX5_decades_75 rfl rfl ?_
        refine r_bd fun r9 h10 => ?_
        refine r_callVv (As := []) (st := []) C (mc_X5_drawsCloth hk h10) cv_X5_449 hk rfl (Nat.le_of_ble_eq_true rfl) (Nat.le_of_ble_eq_true rfl) rfl (Nat.le_of_ble_eq_true rfl) dX5_decades_76 ?_
        exact wfX5_decades_b79 C hk ih x2 x3 x4 x5 x6 r9
def fX5_decades (th : Nat) (x1 : Int32) (x2 : Int32) (x3 : Int32) (P : mm_P) : Option (Int32 × mm_P) :=
  mm_lt (sI P 640 th (0 : Int32)) fun P1 =>
  mm_bd (fX5_within x1 (0 : Int32) (9999 : Int32)) fun r2 =>
  if r2 = 0 then
  (some ((-1 : Int32), P1))
  else
  (mm_bd (fX5_within x2 (1 : Int32) (60 : Int32)) fun r5 =>
  if r5 = 0 then
  (some ((-1 : Int32), P1))
  else
  (mm_bd (fX5_within x3 (0 : Int32) (2 : Int32)) fun r8 =>
  if r8 ≠ 0 then
  (mm_bd (fX5_copies th (0 : Int32) (1188 : Int32) (28 : Int32) P1) fun r11 =>
  mm_lt (sJ r11 677 th x1.toInt64) fun P13 =>
  fX5_decades_b62 th mm_NF x2 x3 (0 : Int32) (0 : Int32) (0 : Int32) P13)
  else
  (some ((-1 : Int32), P1))))
set_option maxHeartbeats 4000000 in
theorem mc_X5_decades {l : Launch} {K : mm_K} {P : mm_P} {th : Nat} {x1 : Int32} {x2 : Int32} {x3 : Int32} {nx sl : Nat} {r : (Int32 × mm_P)} (hk : K.1 th = 5) (h : fX5_decades th x1 x2 x3 P = some r) : mm_C l yX5_decades (ws_ yX5_decades cX5_decades 7 (some .int)) 5 121 [.ref th, .int x1, .int x2, .int x3] K P nx sl (mm_wwI K nx sl r) :=
  mm_start (ls := [some (.ref th), some (.int x1), some (.int x2), some (.int x3), none, none, none]) h (by decide) (Nat.le_of_ble_eq_true rfl) rfl (Nat.le_refl _) (Nat.le_refl _) rfl fun E hl9 _ _ _ C => by
  have C : mm_Cx E RX5 cX5_decades 7 (some .int) 5 121 := C
  unfold fX5_decades
  refine r_aload_n C dX5_decades_0 rfl rfl ?_
  refine r_iconst (v := 0) C dX5_decades_1 rfl ?_
  refine r_putI (code := 640) C fl_X5_1 hk rfl rfl dX5_decades_2 ?_
  refine r_ltP fun P1 => ?_
  refine r_iload_n C dX5_decades_5 rfl rfl ?_
  refine r_iconst (v := 0) C dX5_decades_6 rfl ?_
  refine r_sipush (v := 9999) C dX5_decades_7 rfl ?_
  refine r_bd fun r2 h3 => ?_
  refine r_callS (As := [.int x1, .int (0 : Int32), .int (9999 : Int32)]) (st := []) C (mc_X5_within h3) cv_X5_349  rfl (Nat.le_of_ble_eq_true rfl) (Nat.le_of_ble_eq_true rfl) rfl (Nat.le_of_ble_eq_true rfl) dX5_decades_10 ?_
  refine r_ifeq (tgt := 35) C dX5_decades_13 (by decide) (fun h4 => ?_) (fun h4 => ?_)
  · refine r_iconst (v := -1) C dX5_decades_35 rfl ?_
    exact r_iret C dX5_decades_36 rfl
  · refine r_iload_n C dX5_decades_16 rfl rfl ?_
    refine r_iconst (v := 1) C dX5_decades_17 rfl ?_
    refine r_bipush (v := 60) C dX5_decades_18 rfl ?_
    refine r_bd fun r5 h6 => ?_
    refine r_callS (As := [.int x2, .int (1 : Int32), .int (60 : Int32)]) (st := []) C (mc_X5_within h6) cv_X5_349  rfl (Nat.le_of_ble_eq_true rfl) (Nat.le_of_ble_eq_true rfl) rfl (Nat.le_of_ble_eq_true rfl) dX5_decades_20 ?_
    refine r_ifeq (tgt := 35) C dX5_decades_23 (by decide) (fun h7 => ?_) (fun h7 => ?_)
    · refine r_iconst (v := -1) C dX5_decades_35 rfl ?_
      exact r_iret C dX5_decades_36 rfl
    · refine r_iload_n C dX5_decades_26 rfl rfl ?_
      refine r_iconst (v := 0) C dX5_decades_27 rfl ?_
      refine r_iconst (v := 2) C dX5_decades_28 rfl ?_
      refine r_bd fun r8 h9 => ?_
      refine r_callS (As := [.int x3, .int (0 : Int32), .int (2 : Int32)]) (st := []) C (mc_X5_within h9) cv_X5_349  rfl (Nat.le_of_ble_eq_true rfl) (Nat.le_of_ble_eq_true rfl) rfl (Nat.le_of_ble_eq_true rfl) dX5_decades_29 ?_
      refine r_ifne (tgt := 37) C dX5_decades_32 (by decide) (fun h10 => ?_) (fun h10 => ?_)
      · refine r_aload_n C dX5_decades_37 rfl rfl ?_
        refine r_iconst (v := 0) C dX5_decades_38 rfl ?_
        refine r_sipush (v := 1188) C dX5_decades_39 rfl ?_
        refine r_bipush (v := 28) C dX5_decades_42 rfl ?_
        refine r_bd fun r11 h12 => ?_
        refine r_callVv (As := [.int (0 : Int32), .int (1188 : Int32), .int (28 : Int32)]) (st := []) C (mc_X5_copies hk h12) cv_X5_288 hk rfl (Nat.le_of_ble_eq_true rfl) (Nat.le_of_ble_eq_true rfl) rfl (Nat.le_of_ble_eq_true rfl) dX5_decades_44 ?_
        refine r_aload_n C dX5_decades_47 rfl rfl ?_
        refine r_iload_n C dX5_decades_48 rfl rfl ?_
        refine r_i2l C dX5_decades_49 ?_
        refine r_putJ (code := 677) C fl_X5_431 hk rfl rfl dX5_decades_50 ?_
        refine r_ltP fun P13 => ?_
        refine r_iconst (v := 0) C dX5_decades_53 rfl ?_
        refine r_istore (ls' := [some (.ref th), some (.int x1), some (.int x2), some (.int x3), some (.int (0 : Int32)), none, none]) C dX5_decades_54 (Nat.le_of_ble_eq_true rfl) rfl rfl ?_
        refine r_iconst (v := 0) C dX5_decades_56 rfl ?_
        refine r_istore (ls' := [some (.ref th), some (.int x1), some (.int x2), some (.int x3), some (.int (0 : Int32)), some (.int (0 : Int32)), none]) C dX5_decades_57 (Nat.le_of_ble_eq_true rfl) rfl rfl ?_
        refine r_iconst (v := 0) C dX5_decades_59 rfl ?_
        refine r_istore (ls' := [some (.ref th), some (.int x1), some (.int x2), some (.int x3), some (.int (0 : Int32)), some (.int (0 : Int32)), some (.int (0 : Int32))]) C dX5_decades_60 (Nat.le_of_ble_eq_true rfl) rfl rfl ?_
        refine r_mask [true, false, true, true, true, true, true] (ls' := [some (.ref th), none, some (.int x2), some (.int x3), some (.int (0 : Int32)), some (.int (0 : Int32)), some (.int (0 : Int32))]) rfl ?_
        exact wfX5_decades_b62 C hk mm_NF x2 x3 (0 : Int32) (0 : Int32) (0 : Int32) P13
      · refine r_iconst (v := -1) C dX5_decades_35 rfl ?_
        exact r_iret C dX5_decades_36 rfl
/-! mark -/
def fX5_mark_b65 (th : Nat)  (x2 : Int32) (s1 : Int32) (s2 : Int32) (P : mm_P) : Option (Int32 × mm_P) :=
  mm_bd (fX5_copies th s1 s2 (54 : Int32) P) fun r1 =>
  if x2 = 0 then
  (mm_lt (sI r1 663 th (gI r1 663 th)) fun P4 =>
  some ((1 : Int32), P4))
  else
  (mm_lt (sI r1 663 th (0 : Int32)) fun P5 =>
  some ((1 : Int32), P5))
set_option maxHeartbeats 4000000 in
theorem wfX5_mark_b65 {E : mm_E} (C : mm_Cx E RX5 cX5_mark 3 (some .boolean) 1 24) {K : mm_K} {th : Nat} (hk : K.1 th = 5) {nx sl : Nat} (x2 : Int32) (s1 : Int32) (s2 : Int32) (P : mm_P) : mm_V E (mm_wwI K nx sl) 65 [some (.ref th), none, some (.int x2)] [.int s2, .int s1, .ref th] K P nx sl (fX5_mark_b65 th x2 s1 s2 P) := by
  unfold fX5_mark_b65
  refine r_bipush (v := 54) C dX5_mark_65 rfl ?_
  refine r_bd fun r1 h2 => ?_
  refine r_callVv (As := [.int s1, .int s2, .int (54 : Int32)]) (st := []) C (mc_X5_copies hk h2) cv_X5_288 hk rfl (Nat.le_of_ble_eq_true rfl) (Nat.le_of_ble_eq_true rfl) rfl (Nat.le_of_ble_eq_true rfl) dX5_mark_67 ?_
  refine r_aload_n C dX5_mark_70 rfl rfl ?_
  refine r_iload_n C dX5_mark_71 rfl rfl ?_
  refine r_ifeq (tgt := 79) C dX5_mark_72 (by decide) (fun h3 => ?_) (fun h3 => ?_)
  · refine r_aload_n C dX5_mark_79 rfl rfl ?_
    refine r_getI (code := 663) C fl_X5_285 hk rfl dX5_mark_80 ?_
    refine r_putI (code := 663) C fl_X5_285 hk rfl rfl dX5_mark_83 ?_
    refine r_ltP fun P4 => ?_
    refine r_iconst (v := 1) C dX5_mark_86 rfl ?_
    exact r_zret C dX5_mark_87 rfl rfl
  · refine r_iconst (v := 0) C dX5_mark_75 rfl ?_
    refine r_goto (tgt := 83) C dX5_mark_76 (by decide) ?_
    refine r_putI (code := 663) C fl_X5_285 hk rfl rfl dX5_mark_83 ?_
    refine r_ltP fun P5 => ?_
    refine r_iconst (v := 1) C dX5_mark_86 rfl ?_
    exact r_zret C dX5_mark_87 rfl rfl
def fX5_mark_b51 (th : Nat)  (x1 : Int32) (x2 : Int32) (s1 : Int32) (P : mm_P) : Option (Int32 × mm_P) :=
  if x2 = 0 then
  (fX5_mark_b65 th x2 s1 ((54 : Int32) * ((1 : Int32) + x1)) P)
  else
  (fX5_mark_b65 th x2 s1 (0 : Int32) P)
set_option maxHeartbeats 4000000 in
theorem wfX5_mark_b51 {E : mm_E} (C : mm_Cx E RX5 cX5_mark 3 (some .boolean) 1 24) {K : mm_K} {th : Nat} (hk : K.1 th = 5) {nx sl : Nat} (x1 : Int32) (x2 : Int32) (s1 : Int32) (P : mm_P) : mm_V E (mm_wwI K nx sl) 51 [some (.ref th), some (.int x1), some (.int x2)] [.int s1, .ref th] K P nx sl (fX5_mark_b51 th x1 x2 s1 P) := by
  unfold fX5_mark_b51
  refine r_iload_n C dX5_mark_51 rfl rfl ?_
  refine r_ifeq (tgt := 59) C dX5_mark_52 (by decide) (fun h1 => ?_) (fun h1 => ?_)
  · refine r_bipush (v := 54) C dX5_mark_59 rfl ?_
    refine r_iconst (v := 1) C dX5_mark_61 rfl ?_
    refine r_iload_n C dX5_mark_62 rfl rfl ?_
    refine r_iadd C dX5_mark_63 ?_
    refine r_imul C dX5_mark_64 ?_
    refine r_mask [true, false, true] (ls' := [some (.ref th), none, some (.int x2)]) rfl ?_
    exact wfX5_mark_b65 C hk x2 s1 ((54 : Int32) * ((1 : Int32) + x1)) P
  · refine r_iconst (v := 0) C dX5_mark_55 rfl ?_
    refine r_goto (tgt := 65) C dX5_mark_56 (by decide) ?_
    refine r_mask [true, false, true] (ls' := [some (.ref th), none, some (.int x2)]) rfl ?_
    exact wfX5_mark_b65 C hk x2 s1 (0 : Int32) P
def fX5_mark_b29 (th : Nat)  (x1 : Int32) (x2 : Int32) (P : mm_P) : Option (Int32 × mm_P) :=
  mm_gd (mm_in x1 4) <|
  mm_lt (sA P 664 th x1.toNatClampNeg ((1 : Int32) &&& 1)) fun P2 =>
  if x2 = 0 then
  (fX5_mark_b51 th x1 x2 (0 : Int32) P2)
  else
  (fX5_mark_b51 th x1 x2 ((54 : Int32) * ((1 : Int32) + x1)) P2)
set_option maxHeartbeats 4000000 in
theorem wfX5_mark_b29 {E : mm_E} (C : mm_Cx E RX5 cX5_mark 3 (some .boolean) 1 24) {K : mm_K} {th : Nat} (hk : K.1 th = 5) {nx sl : Nat} (x1 : Int32) (x2 : Int32) (P : mm_P) : mm_V E (mm_wwI K nx sl) 29 [some (.ref th), some (.int x1), some (.int x2)] [] K P nx sl (fX5_mark_b29 th x1 x2 P) := by
  unfold fX5_mark_b29
  refine r_aload_n C dX5_mark_29 rfl rfl ?_
  refine r_getA C fl_X5_116 hk dX5_mark_30 ?_
  refine r_iload_n C dX5_mark_33 rfl rfl ?_
  refine r_iconst (v := 1) C dX5_mark_34 rfl ?_
  refine r_zast C (rg_664 hk) (mm_ro_of (k := 5) hk rfl) rfl dX5_mark_35 fun h1 => ?_
  refine r_ltP fun P2 => ?_
  refine r_aload_n C dX5_mark_36 rfl rfl ?_
  refine r_iload_n C dX5_mark_37 rfl rfl ?_
  refine r_ifeq (tgt := 50) C dX5_mark_38 (by decide) (fun h3 => ?_) (fun h3 => ?_)
  · refine r_iconst (v := 0) C dX5_mark_50 rfl ?_
    exact wfX5_mark_b51 C hk x1 x2 (0 : Int32) P2
  · refine r_bipush (v := 54) C dX5_mark_41 rfl ?_
    refine r_iconst (v := 1) C dX5_mark_43 rfl ?_
    refine r_iload_n C dX5_mark_44 rfl rfl ?_
    refine r_iadd C dX5_mark_45 ?_
    refine r_imul C dX5_mark_46 ?_
    refine r_goto (tgt := 51) C dX5_mark_47 (by decide) ?_
    exact wfX5_mark_b51 C hk x1 x2 ((54 : Int32) * ((1 : Int32) + x1)) P2
def fX5_mark (th : Nat) (x1 : Int32) (x2 : Int32) (P : mm_P) : Option (Int32 × mm_P) :=
  mm_lt (sI P 640 th (0 : Int32)) fun P1 =>
  mm_bd (fX5_within x1 (0 : Int32) (3 : Int32)) fun r2 =>
  if r2 = 0 then
  (some ((0 : Int32), P1))
  else
  (if x2 = 0 then
  (fX5_mark_b29 th x1 x2 P1)
  else
  (mm_gd (mm_in x1 4) <|
  if (gA P1 664 th x1.toNatClampNeg) ≠ 0 then
  (fX5_mark_b29 th x1 x2 P1)
  else
  (some ((0 : Int32), P1))))
set_option maxHeartbeats 4000000 in
theorem mc_X5_mark {l : Launch} {K : mm_K} {P : mm_P} {th : Nat} {x1 : Int32} {x2 : Int32} {nx sl : Nat} {r : (Int32 × mm_P)} (hk : K.1 th = 5) (h : fX5_mark th x1 x2 P = some r) : mm_C l yX5_mark (ws_ yX5_mark cX5_mark 3 (some .boolean)) 1 24 [.ref th, .int x1, .int x2] K P nx sl (mm_wwI K nx sl r) :=
  mm_start (ls := [some (.ref th), some (.int x1), some (.int x2)]) h (by decide) (Nat.le_of_ble_eq_true rfl) rfl (Nat.le_refl _) (Nat.le_refl _) rfl fun E hl9 _ _ _ C => by
  have C : mm_Cx E RX5 cX5_mark 3 (some .boolean) 1 24 := C
  unfold fX5_mark
  refine r_aload_n C dX5_mark_0 rfl rfl ?_
  refine r_iconst (v := 0) C dX5_mark_1 rfl ?_
  refine r_putI (code := 640) C fl_X5_1 hk rfl rfl dX5_mark_2 ?_
  refine r_ltP fun P1 => ?_
  refine r_iload_n C dX5_mark_5 rfl rfl ?_
  refine r_iconst (v := 0) C dX5_mark_6 rfl ?_
  refine r_iconst (v := 3) C dX5_mark_7 rfl ?_
  refine r_bd fun r2 h3 => ?_
  refine r_callS (As := [.int x1, .int (0 : Int32), .int (3 : Int32)]) (st := []) C (mc_X5_within h3) cv_X5_349  rfl (Nat.le_of_ble_eq_true rfl) (Nat.le_of_ble_eq_true rfl) rfl (Nat.le_of_ble_eq_true rfl) dX5_mark_8 ?_
  refine r_ifeq (tgt := 27) C dX5_mark_11 (by decide) (fun h4 => ?_) (fun h4 => ?_)
  · refine r_iconst (v := 0) C dX5_mark_27 rfl ?_
    exact r_zret C dX5_mark_28 rfl rfl
  · refine r_iload_n C dX5_mark_14 rfl rfl ?_
    refine r_ifeq (tgt := 29) C dX5_mark_15 (by decide) (fun h5 => ?_) (fun h5 => ?_)
    · exact wfX5_mark_b29 C hk x1 x2 P1
    · refine r_aload_n C dX5_mark_18 rfl rfl ?_
      refine r_getA C fl_X5_116 hk dX5_mark_19 ?_
      refine r_iload_n C dX5_mark_22 rfl rfl ?_
      refine r_zald C (rg_664 hk) rfl dX5_mark_23 fun h6 => ?_
      refine r_ifne (tgt := 29) C dX5_mark_24 (by decide) (fun h7 => ?_) (fun h7 => ?_)
      · exact wfX5_mark_b29 C hk x1 x2 P1
      · refine r_iconst (v := 0) C dX5_mark_27 rfl ?_
        exact r_zret C dX5_mark_28 rfl rfl
/-! turnedSet -/
def fX5_turnedSet_b4 (th : Nat) (P : mm_P)  : Nat → Int32 → Int32 → Option Int32
  | 0, _, _ => none
  | n + 1, x1, x2 =>
  mm_bd (fX5_cloths th P) fun r1 =>
  if r1 ≤ x2 then
  (some (x1))
  else
  (mm_bd (fX5_isTurned th P (0 : Int32) x2) fun r4 =>
  if r4 = 0 then
  (mm_lt (x1 ||| (0 : Int32)) fun v7 =>
  fX5_turnedSet_b4 th P n v7 (x2 + (1 : Int32)))
  else
  (mm_lt (x1 ||| (mm_shl (1 : Int32) x2)) fun v8 =>
  fX5_turnedSet_b4 th P n v8 (x2 + (1 : Int32))))
set_option maxHeartbeats 4000000 in
theorem wfX5_turnedSet_b4 {E : mm_E} (C : mm_Cx E RX5 cX5_turnedSet 3 (some .int) 2 44) {K : mm_K} {th : Nat} (hk : K.1 th = 5) {P : mm_P} {nx sl : Nat} : ∀ (n : Nat), ∀ (x1 : Int32) (x2 : Int32), mm_V E (mm_wrI K P nx sl) 4 [some (.ref th), some (.int x1), some (.int x2)] [] K P nx sl (fX5_turnedSet_b4 th P n x1 x2) := by
  intro n
  induction n with
  | zero => intro x1 x2; exact r_none
  | succ n ih =>
    intro x1 x2
    rw [fX5_turnedSet_b4]
    refine r_iload_n C dX5_turnedSet_4 rfl rfl ?_
    refine r_aload_n C dX5_turnedSet_5 rfl rfl ?_
    refine r_bd fun r1 h2 => ?_
    refine r_callV (As := []) (st := [.int x2]) C (mc_X5_cloths hk h2) cv_X5_292 hk rfl (Nat.le_of_ble_eq_true rfl) (Nat.le_of_ble_eq_true rfl) rfl (Nat.le_of_ble_eq_true rfl) dX5_turnedSet_6 ?_
    refine r_icmpge (tgt := 37) C dX5_turnedSet_9 (by decide) (fun h3 => ?_) (fun h3 => ?_)
    · refine r_iload_n C dX5_turnedSet_37 rfl rfl ?_
      exact r_iret C dX5_turnedSet_38 rfl
    · refine r_iload_n C dX5_turnedSet_12 rfl rfl ?_
      refine r_aload_n C dX5_turnedSet_13 rfl rfl ?_
      refine r_iconst (v := 0) C dX5_turnedSet_14 rfl ?_
      refine r_iload_n C dX5_turnedSet_15 rfl rfl ?_
      refine r_bd fun r4 h5 => ?_
      refine r_callV (As := [.int (0 : Int32), .int x2]) (st := [.int x1]) C (mc_X5_isTurned hk h5) cv_X5_352 hk rfl (Nat.le_of_ble_eq_true rfl) (Nat.le_of_ble_eq_true rfl) rfl (Nat.le_of_ble_eq_true rfl) dX5_turnedSet_16 ?_
      refine r_ifeq (tgt := 28) C dX5_turnedSet_19 (by decide) (fun h6 => ?_) (fun h6 => ?_)
      · refine r_iconst (v := 0) C dX5_turnedSet_28 rfl ?_
        refine r_ior C dX5_turnedSet_29 ?_
        refine r_ltI fun v7 => ?_
        refine r_istore_n (ls' := [some (.ref th), some (.int v7), some (.int x2)]) C dX5_turnedSet_30 rfl (Nat.le_of_ble_eq_true rfl) rfl rfl ?_
        refine r_iinc (v := 1) (ls' := [some (.ref th), some (.int v7), some (.int (x2 + (1 : Int32)))]) C dX5_turnedSet_31 rfl rfl (Nat.le_of_ble_eq_true rfl) rfl rfl ?_
        refine r_goto (tgt := 4) C dX5_turnedSet_34 (by decide) ?_
        exact ih v7 (x2 + (1 : Int32))
      · refine r_iconst (v := 1) C dX5_turnedSet_22 rfl ?_
        refine r_iload_n C dX5_turnedSet_23 rfl rfl ?_
        refine r_ishl C dX5_turnedSet_24 ?_
        refine r_goto (tgt := 29) C dX5_turnedSet_25 (by decide) ?_
        refine r_ior C dX5_turnedSet_29 ?_
        refine r_ltI fun v8 => ?_
        refine r_istore_n (ls' := [some (.ref th), some (.int v8), some (.int x2)]) C dX5_turnedSet_30 rfl (Nat.le_of_ble_eq_true rfl) rfl rfl ?_
        refine r_iinc (v := 1) (ls' := [some (.ref th), some (.int v8), some (.int (x2 + (1 : Int32)))]) C dX5_turnedSet_31 rfl rfl (Nat.le_of_ble_eq_true rfl) rfl rfl ?_
        refine r_goto (tgt := 4) C dX5_turnedSet_34 (by decide) ?_
        exact ih v8 (x2 + (1 : Int32))
def fX5_turnedSet (th : Nat) (P : mm_P)  : Option Int32 :=
  fX5_turnedSet_b4 th P mm_NF (0 : Int32) (0 : Int32)
set_option maxHeartbeats 4000000 in
theorem mc_X5_turnedSet {l : Launch} {K : mm_K} {P : mm_P} {th : Nat}  {nx sl : Nat} {r : Int32} (hk : K.1 th = 5) (h : fX5_turnedSet th P = some r) : mm_C l yX5_turnedSet (ws_ yX5_turnedSet cX5_turnedSet 3 (some .int)) 2 44 [.ref th] K P nx sl (mm_wrI K P nx sl r) :=
  mm_start (ls := [some (.ref th), none, none]) h (by decide) (Nat.le_of_ble_eq_true rfl) rfl (Nat.le_refl _) (Nat.le_refl _) rfl fun E hl9 _ _ _ C => by
  have C : mm_Cx E RX5 cX5_turnedSet 3 (some .int) 2 44 := C
  unfold fX5_turnedSet
  refine r_iconst (v := 0) C dX5_turnedSet_0 rfl ?_
  refine r_istore_n (ls' := [some (.ref th), some (.int (0 : Int32)), none]) C dX5_turnedSet_1 rfl (Nat.le_of_ble_eq_true rfl) rfl rfl ?_
  refine r_iconst (v := 0) C dX5_turnedSet_2 rfl ?_
  refine r_istore_n (ls' := [some (.ref th), some (.int (0 : Int32)), some (.int (0 : Int32))]) C dX5_turnedSet_3 rfl (Nat.le_of_ble_eq_true rfl) rfl rfl ?_
  exact wfX5_turnedSet_b4 C hk mm_NF (0 : Int32) (0 : Int32)
/-! count -/
def fX5_count (th : Nat) (x1 : Int32) (P : mm_P) : Option (Int32 × mm_P) :=
  mm_lt (sI P 640 th (0 : Int32)) fun P1 =>
  if x1 = (0 : Int32) then
  (mm_bd (fX5_cloths th P1) fun r3 =>
  some (r3, P1))
  else
  (if x1 = (1 : Int32) then
  (mm_gd (mm_in (1 : Int32) 1242) <|
  some (gA P1 662 th (1 : Int32).toNatClampNeg, P1))
  else
  (if x1 = (2 : Int32) then
  (mm_gd (mm_in (3 : Int32) 200) <|
  some (gA P1 650 th (3 : Int32).toNatClampNeg, P1))
  else
  (if x1 = (3 : Int32) then
  (mm_bd (fX5_roomLeft th P1 (0 : Int32)) fun r10 =>
  some (r10, P1))
  else
  (if x1 = (4 : Int32) then
  (mm_gd (mm_in (0 : Int32) 1242) <|
  some (gA P1 662 th (0 : Int32).toNatClampNeg, P1))
  else
  (if x1 = (5 : Int32) then
  (mm_gd (mm_in (0 : Int32) 1242) <|
  mm_bd (fX5_windOf th P1 (gA P1 662 th (0 : Int32).toNatClampNeg) (0 : Int32)) fun r16 =>
  some (r16, P1))
  else
  (if x1 = (6 : Int32) then
  (mm_bd (fX5_lawsOf th P1 (0 : Int32)) fun r19 =>
  mm_bd (fX5_worthOf th P1 r19) fun r21 =>
  some (r21, P1))
  else
  (if x1 = (7 : Int32) then
  (mm_bd (fX5_turnedSet th P1) fun r24 =>
  some (r24, P1))
  else
  (if x1 = (8 : Int32) then
  (mm_gd (mm_in (5 : Int32) 200) <|
  some (gA P1 650 th (5 : Int32).toNatClampNeg, P1))
  else
  (if x1 = (9 : Int32) then
  (mm_gd (mm_in (0 : Int32) 200) <|
  some (gA P1 659 th (0 : Int32).toNatClampNeg, P1))
  else
  (if x1 = (10 : Int32) then
  (mm_gd (mm_in (28 : Int32) 1242) <|
  some (gA P1 662 th (28 : Int32).toNatClampNeg, P1))
  else
  (if x1 = (11 : Int32) then
  (some (gI P1 663 th, P1))
  else
  (if x1 = (12 : Int32) then
  (some (gI P1 642 th, P1))
  else
  (some ((-1 : Int32), P1))))))))))))))
set_option maxHeartbeats 4000000 in
theorem mc_X5_count {l : Launch} {K : mm_K} {P : mm_P} {th : Nat} {x1 : Int32} {nx sl : Nat} {r : (Int32 × mm_P)} (hk : K.1 th = 5) (h : fX5_count th x1 P = some r) : mm_C l yX5_count (ws_ yX5_count cX5_count 2 (some .int)) 4 88 [.ref th, .int x1] K P nx sl (mm_wwI K nx sl r) :=
  mm_start (ls := [some (.ref th), some (.int x1)]) h (by decide) (Nat.le_of_ble_eq_true rfl) rfl (Nat.le_refl _) (Nat.le_refl _) rfl fun E hl9 _ _ _ C => by
  have C : mm_Cx E RX5 cX5_count 2 (some .int) 4 88 := C
  unfold fX5_count
  refine r_aload_n C dX5_count_0 rfl rfl ?_
  refine r_iconst (v := 0) C dX5_count_1 rfl ?_
  refine r_putI (code := 640) C fl_X5_1 hk rfl rfl dX5_count_2 ?_
  refine r_ltP fun P1 => ?_
  refine r_iload_n C dX5_count_5 rfl rfl ?_
  refine r_if (fun h2 => ?_) (fun h2 => ?_)
  · refine r_tableC (tgt := 72) (off := 66) C dX5_count_6 h2 (by decide) (by decide) (by decide) (by decide) ?_
    refine r_aload_n C dX5_count_72 rfl rfl ?_
    refine r_bd fun r3 h4 => ?_
    refine r_callV (As := []) (st := []) C (mc_X5_cloths hk h4) cv_X5_292 hk rfl (Nat.le_of_ble_eq_true rfl) (Nat.le_of_ble_eq_true rfl) rfl (Nat.le_of_ble_eq_true rfl) dX5_count_73 ?_
    exact r_iret C dX5_count_76 rfl
  refine r_if (fun h5 => ?_) (fun h5 => ?_)
  · refine r_tableC (tgt := 77) (off := 71) C dX5_count_6 h5 (by decide) (by decide) (by decide) (by decide) ?_
    refine r_aload_n C dX5_count_77 rfl rfl ?_
    refine r_getA C fl_X5_113 hk dX5_count_78 ?_
    refine r_iconst (v := 1) C dX5_count_81 rfl ?_
    refine r_iald C (rg_662 hk) rfl dX5_count_82 fun h6 => ?_
    exact r_iret C dX5_count_83 rfl
  refine r_if (fun h7 => ?_) (fun h7 => ?_)
  · refine r_tableC (tgt := 84) (off := 78) C dX5_count_6 h7 (by decide) (by decide) (by decide) (by decide) ?_
    refine r_aload_n C dX5_count_84 rfl rfl ?_
    refine r_getA C fl_X5_89 hk dX5_count_85 ?_
    refine r_iconst (v := 3) C dX5_count_88 rfl ?_
    refine r_iald C (rg_650 hk) rfl dX5_count_89 fun h8 => ?_
    exact r_iret C dX5_count_90 rfl
  refine r_if (fun h9 => ?_) (fun h9 => ?_)
  · refine r_tableC (tgt := 91) (off := 85) C dX5_count_6 h9 (by decide) (by decide) (by decide) (by decide) ?_
    refine r_aload_n C dX5_count_91 rfl rfl ?_
    refine r_iconst (v := 0) C dX5_count_92 rfl ?_
    refine r_bd fun r10 h11 => ?_
    refine r_callV (As := [.int (0 : Int32)]) (st := []) C (mc_X5_roomLeft hk h11) cv_X5_364 hk rfl (Nat.le_of_ble_eq_true rfl) (Nat.le_of_ble_eq_true rfl) rfl (Nat.le_of_ble_eq_true rfl) dX5_count_93 ?_
    exact r_iret C dX5_count_96 rfl
  refine r_if (fun h12 => ?_) (fun h12 => ?_)
  · refine r_tableC (tgt := 97) (off := 91) C dX5_count_6 h12 (by decide) (by decide) (by decide) (by decide) ?_
    refine r_aload_n C dX5_count_97 rfl rfl ?_
    refine r_getA C fl_X5_113 hk dX5_count_98 ?_
    refine r_iconst (v := 0) C dX5_count_101 rfl ?_
    refine r_iald C (rg_662 hk) rfl dX5_count_102 fun h13 => ?_
    exact r_iret C dX5_count_103 rfl
  refine r_if (fun h14 => ?_) (fun h14 => ?_)
  · refine r_tableC (tgt := 104) (off := 98) C dX5_count_6 h14 (by decide) (by decide) (by decide) (by decide) ?_
    refine r_aload_n C dX5_count_104 rfl rfl ?_
    refine r_aload_n C dX5_count_105 rfl rfl ?_
    refine r_getA C fl_X5_113 hk dX5_count_106 ?_
    refine r_iconst (v := 0) C dX5_count_109 rfl ?_
    refine r_iald C (rg_662 hk) rfl dX5_count_110 fun h15 => ?_
    refine r_iconst (v := 0) C dX5_count_111 rfl ?_
    refine r_bd fun r16 h17 => ?_
    refine r_callV (As := [.int (gA P1 662 th (0 : Int32).toNatClampNeg), .int (0 : Int32)]) (st := []) C (mc_X5_windOf hk h17) cv_X5_332 hk rfl (Nat.le_of_ble_eq_true rfl) (Nat.le_of_ble_eq_true rfl) rfl (Nat.le_of_ble_eq_true rfl) dX5_count_112 ?_
    exact r_iret C dX5_count_115 rfl
  refine r_if (fun h18 => ?_) (fun h18 => ?_)
  · refine r_tableC (tgt := 116) (off := 110) C dX5_count_6 h18 (by decide) (by decide) (by decide) (by decide) ?_
    refine r_aload_n C dX5_count_116 rfl rfl ?_
    refine r_aload_n C dX5_count_117 rfl rfl ?_
    refine r_iconst (v := 0) C dX5_count_118 rfl ?_
    refine r_bd fun r19 h20 => ?_
    refine r_callV (As := [.int (0 : Int32)]) (st := [.ref th]) C (mc_X5_lawsOf hk h20) cv_X5_358 hk rfl (Nat.le_of_ble_eq_true rfl) (Nat.le_of_ble_eq_true rfl) rfl (Nat.le_of_ble_eq_true rfl) dX5_count_119 ?_
    refine r_bd fun r21 h22 => ?_
    refine r_callV (As := [.int r19]) (st := []) C (mc_X5_worthOf hk h22) cv_X5_385 hk rfl (Nat.le_of_ble_eq_true rfl) (Nat.le_of_ble_eq_true rfl) rfl (Nat.le_of_ble_eq_true rfl) dX5_count_122 ?_
    exact r_iret C dX5_count_125 rfl
  refine r_if (fun h23 => ?_) (fun h23 => ?_)
  · refine r_tableC (tgt := 126) (off := 120) C dX5_count_6 h23 (by decide) (by decide) (by decide) (by decide) ?_
    refine r_aload_n C dX5_count_126 rfl rfl ?_
    refine r_bd fun r24 h25 => ?_
    refine r_callV (As := []) (st := []) C (mc_X5_turnedSet hk h25) cv_X5_452 hk rfl (Nat.le_of_ble_eq_true rfl) (Nat.le_of_ble_eq_true rfl) rfl (Nat.le_of_ble_eq_true rfl) dX5_count_127 ?_
    exact r_iret C dX5_count_130 rfl
  refine r_if (fun h26 => ?_) (fun h26 => ?_)
  · refine r_tableC (tgt := 131) (off := 125) C dX5_count_6 h26 (by decide) (by decide) (by decide) (by decide) ?_
    refine r_aload_n C dX5_count_131 rfl rfl ?_
    refine r_getA C fl_X5_89 hk dX5_count_132 ?_
    refine r_iconst (v := 5) C dX5_count_135 rfl ?_
    refine r_iald C (rg_650 hk) rfl dX5_count_136 fun h27 => ?_
    exact r_iret C dX5_count_137 rfl
  refine r_if (fun h28 => ?_) (fun h28 => ?_)
  · refine r_tableC (tgt := 138) (off := 132) C dX5_count_6 h28 (by decide) (by decide) (by decide) (by decide) ?_
    refine r_aload_n C dX5_count_138 rfl rfl ?_
    refine r_getA C fl_X5_104 hk dX5_count_139 ?_
    refine r_iconst (v := 0) C dX5_count_142 rfl ?_
    refine r_iald C (rg_659 hk) rfl dX5_count_143 fun h29 => ?_
    exact r_iret C dX5_count_144 rfl
  refine r_if (fun h30 => ?_) (fun h30 => ?_)
  · refine r_tableC (tgt := 145) (off := 139) C dX5_count_6 h30 (by decide) (by decide) (by decide) (by decide) ?_
    refine r_aload_n C dX5_count_145 rfl rfl ?_
    refine r_getA C fl_X5_113 hk dX5_count_146 ?_
    refine r_bipush (v := 28) C dX5_count_149 rfl ?_
    refine r_iald C (rg_662 hk) rfl dX5_count_151 fun h31 => ?_
    exact r_iret C dX5_count_152 rfl
  refine r_if (fun h32 => ?_) (fun h32 => ?_)
  · refine r_tableC (tgt := 153) (off := 147) C dX5_count_6 h32 (by decide) (by decide) (by decide) (by decide) ?_
    refine r_aload_n C dX5_count_153 rfl rfl ?_
    refine r_getI (code := 663) C fl_X5_285 hk rfl dX5_count_154 ?_
    exact r_iret C dX5_count_157 rfl
  refine r_if (fun h33 => ?_) (fun h33 => ?_)
  · refine r_tableC (tgt := 158) (off := 152) C dX5_count_6 h33 (by decide) (by decide) (by decide) (by decide) ?_
    refine r_aload_n C dX5_count_158 rfl rfl ?_
    refine r_getI (code := 642) C fl_X5_11 hk rfl dX5_count_159 ?_
    exact r_iret C dX5_count_162 rfl
  refine r_tableD (tgt := 163) (n := 13) C dX5_count_6 (mm_fa h2 (mm_fa h5 (mm_fa h7 (mm_fa h9 (mm_fa h12 (mm_fa h14 (mm_fa h18 (mm_fa h23 (mm_fa h26 (mm_fa h28 (mm_fa h30 (mm_fa h32 (mm_fa h33 (mm_fn)))))))))))))) (by decide +kernel) (by decide) (by decide) ?_
  refine r_iconst (v := -1) C dX5_count_163 rfl ?_
  exact r_iret C dX5_count_164 rfl
/-! init -/
def fX5_init (th : Nat)  (K : mm_K) (P : mm_P) (nx : Nat) (sl : Nat) : Option mm_S :=
  mm_mo mm_waV nx sl <|
  mm_mo mm_waV (nx + 1) (sl + 1000) <|
  mm_lt (mm_kn K nx 64 1000) fun K1 =>
  mm_lt (mm_fresh P nx) fun P2 =>
  mm_gd (K1.1 th = 37) <|
  mm_lt (sR P2 4737 th (some nx)) fun P5 =>
  mm_mo mm_waV (nx + 1 + 1) (sl + 1000 + 1002) <|
  mm_lt (mm_kn K1 (nx + 1) 64 1002) fun K6 =>
  mm_lt (mm_fresh P5 (nx + 1)) fun P7 =>
  mm_gd (K6.1 th = 37) <|
  mm_lt (sR P7 4740 th (some (nx + 1))) fun P10 =>
  mm_mo mm_waV (nx + 1 + 1 + 1) (sl + 1000 + 1002 + 1002) <|
  mm_lt (mm_kn K6 (nx + 1 + 1) 64 1002) fun K11 =>
  mm_lt (mm_fresh P10 (nx + 1 + 1)) fun P12 =>
  mm_gd (K11.1 th = 37) <|
  mm_lt (sR P12 4741 th (some (nx + 1 + 1))) fun P15 =>
  mm_mo mm_waV (nx + 1 + 1 + 1 + 1) (sl + 1000 + 1002 + 1002 + 1002) <|
  mm_lt (mm_kn K11 (nx + 1 + 1 + 1) 66 1002) fun K16 =>
  mm_lt (mm_fresh P15 (nx + 1 + 1 + 1)) fun P17 =>
  mm_gd (K16.1 th = 37) <|
  mm_lt (sR P17 4742 th (some (nx + 1 + 1 + 1))) fun P20 =>
  mm_mo mm_waV (nx + 1 + 1 + 1 + 1 + 1) (sl + 1000 + 1002 + 1002 + 1002 + 26) <|
  mm_lt (mm_kn K16 (nx + 1 + 1 + 1 + 1) 66 26) fun K21 =>
  mm_lt (mm_fresh P20 (nx + 1 + 1 + 1 + 1)) fun P22 =>
  mm_gd (mm_in (0 : Int32) (K21.2 (nx + 1 + 1 + 1 + 1))) <|
  mm_lt (sL P22 8194 (nx + 1 + 1 + 1 + 1) (0 : Int32).toNatClampNeg (6251602 : Int64)) fun P25 =>
  mm_gd (mm_in (1 : Int32) (K21.2 (nx + 1 + 1 + 1 + 1))) <|
  mm_lt (sL P25 8194 (nx + 1 + 1 + 1 + 1) (1 : Int32).toNatClampNeg (1177493 : Int64)) fun P27 =>
  mm_gd (mm_in (2 : Int32) (K21.2 (nx + 1 + 1 + 1 + 1))) <|
  mm_lt (sL P27 8194 (nx + 1 + 1 + 1 + 1) (2 : Int32).toNatClampNeg (1604747592 : Int64)) fun P29 =>
  mm_gd (mm_in (3 : Int32) (K21.2 (nx + 1 + 1 + 1 + 1))) <|
  mm_lt (sL P29 8194 (nx + 1 + 1 + 1 + 1) (3 : Int32).toNatClampNeg (43890888 : Int64)) fun P31 =>
  mm_gd (mm_in (4 : Int32) (K21.2 (nx + 1 + 1 + 1 + 1))) <|
  mm_lt (sL P31 8194 (nx + 1 + 1 + 1 + 1) (4 : Int32).toNatClampNeg (817571 : Int64)) fun P33 =>
  mm_gd (mm_in (5 : Int32) (K21.2 (nx + 1 + 1 + 1 + 1))) <|
  mm_lt (sL P33 8194 (nx + 1 + 1 + 1 + 1) (5 : Int32).toNatClampNeg (43580913 : Int64)) fun P35 =>
  mm_gd (mm_in (6 : Int32) (K21.2 (nx + 1 + 1 + 1 + 1))) <|
  mm_lt (sL P35 8194 (nx + 1 + 1 + 1 + 1) (6 : Int32).toNatClampNeg (46929487 : Int64)) fun P37 =>
  mm_gd (mm_in (7 : Int32) (K21.2 (nx + 1 + 1 + 1 + 1))) <|
  mm_lt (sL P37 8194 (nx + 1 + 1 + 1 + 1) (7 : Int32).toNatClampNeg (14209610 : Int64)) fun P39 =>
  mm_gd (mm_in (8 : Int32) (K21.2 (nx + 1 + 1 + 1 + 1))) <|
  mm_lt (sL P39 8194 (nx + 1 + 1 + 1 + 1) (8 : Int32).toNatClampNeg (6232399 : Int64)) fun P41 =>
  mm_gd (mm_in (9 : Int32) (K21.2 (nx + 1 + 1 + 1 + 1))) <|
  mm_lt (sL P41 8194 (nx + 1 + 1 + 1 + 1) (9 : Int32).toNatClampNeg (31067180 : Int64)) fun P43 =>
  mm_gd (mm_in (10 : Int32) (K21.2 (nx + 1 + 1 + 1 + 1))) <|
  mm_lt (sL P43 8194 (nx + 1 + 1 + 1 + 1) (10 : Int32).toNatClampNeg (8420923 : Int64)) fun P45 =>
  mm_gd (mm_in (11 : Int32) (K21.2 (nx + 1 + 1 + 1 + 1))) <|
  mm_lt (sL P45 8194 (nx + 1 + 1 + 1 + 1) (11 : Int32).toNatClampNeg (407118 : Int64)) fun P47 =>
  mm_gd (mm_in (12 : Int32) (K21.2 (nx + 1 + 1 + 1 + 1))) <|
  mm_lt (sL P47 8194 (nx + 1 + 1 + 1 + 1) (12 : Int32).toNatClampNeg (1014841 : Int64)) fun P49 =>
  mm_gd (mm_in (13 : Int32) (K21.2 (nx + 1 + 1 + 1 + 1))) <|
  mm_lt (sL P49 8194 (nx + 1 + 1 + 1 + 1) (13 : Int32).toNatClampNeg (1167099 : Int64)) fun P51 =>
  mm_gd (mm_in (14 : Int32) (K21.2 (nx + 1 + 1 + 1 + 1))) <|
  mm_lt (sL P51 8194 (nx + 1 + 1 + 1 + 1) (14 : Int32).toNatClampNeg (3540 : Int64)) fun P53 =>
  mm_gd (mm_in (15 : Int32) (K21.2 (nx + 1 + 1 + 1 + 1))) <|
  mm_lt (sL P53 8194 (nx + 1 + 1 + 1 + 1) (15 : Int32).toNatClampNeg (426554 : Int64)) fun P55 =>
  mm_gd (mm_in (16 : Int32) (K21.2 (nx + 1 + 1 + 1 + 1))) <|
  mm_lt (sL P55 8194 (nx + 1 + 1 + 1 + 1) (16 : Int32).toNatClampNeg (30596128 : Int64)) fun P57 =>
  mm_gd (mm_in (17 : Int32) (K21.2 (nx + 1 + 1 + 1 + 1))) <|
  mm_lt (sL P57 8194 (nx + 1 + 1 + 1 + 1) (17 : Int32).toNatClampNeg (36021333 : Int64)) fun P59 =>
  mm_gd (mm_in (18 : Int32) (K21.2 (nx + 1 + 1 + 1 + 1))) <|
  mm_lt (sL P59 8194 (nx + 1 + 1 + 1 + 1) (18 : Int32).toNatClampNeg (320390 : Int64)) fun P61 =>
  mm_gd (mm_in (19 : Int32) (K21.2 (nx + 1 + 1 + 1 + 1))) <|
  mm_lt (sL P61 8194 (nx + 1 + 1 + 1 + 1) (19 : Int32).toNatClampNeg (1186121 : Int64)) fun P63 =>
  mm_gd (mm_in (20 : Int32) (K21.2 (nx + 1 + 1 + 1 + 1))) <|
  mm_lt (sL P63 8194 (nx + 1 + 1 + 1 + 1) (20 : Int32).toNatClampNeg (19741 : Int64)) fun P65 =>
  mm_gd (mm_in (21 : Int32) (K21.2 (nx + 1 + 1 + 1 + 1))) <|
  mm_lt (sL P65 8194 (nx + 1 + 1 + 1 + 1) (21 : Int32).toNatClampNeg (1891 : Int64)) fun P67 =>
  mm_gd (mm_in (22 : Int32) (K21.2 (nx + 1 + 1 + 1 + 1))) <|
  mm_lt (sL P67 8194 (nx + 1 + 1 + 1 + 1) (22 : Int32).toNatClampNeg (573 : Int64)) fun P69 =>
  mm_gd (mm_in (23 : Int32) (K21.2 (nx + 1 + 1 + 1 + 1))) <|
  mm_lt (sL P69 8194 (nx + 1 + 1 + 1 + 1) (23 : Int32).toNatClampNeg (1177862 : Int64)) fun P71 =>
  mm_gd (mm_in (24 : Int32) (K21.2 (nx + 1 + 1 + 1 + 1))) <|
  mm_lt (sL P71 8194 (nx + 1 + 1 + 1 + 1) (24 : Int32).toNatClampNeg (660580 : Int64)) fun P73 =>
  mm_gd (mm_in (25 : Int32) (K21.2 (nx + 1 + 1 + 1 + 1))) <|
  mm_lt (sL P73 8194 (nx + 1 + 1 + 1 + 1) (25 : Int32).toNatClampNeg (975695 : Int64)) fun P75 =>
  mm_gd (K21.1 th = 37) <|
  mm_lt (sR P75 4745 th (some (nx + 1 + 1 + 1 + 1))) fun P77 =>
  mm_mo mm_waV (nx + 1 + 1 + 1 + 1 + 1 + 1) (sl + 1000 + 1002 + 1002 + 1002 + 26 + 200) <|
  mm_lt (mm_kn K21 (nx + 1 + 1 + 1 + 1 + 1) 64 200) fun K78 =>
  mm_lt (mm_fresh P77 (nx + 1 + 1 + 1 + 1 + 1)) fun P79 =>
  mm_gd (K78.1 th = 37) <|
  mm_lt (sR P79 4746 th (some (nx + 1 + 1 + 1 + 1 + 1))) fun P82 =>
  mm_mo mm_waV (nx + 1 + 1 + 1 + 1 + 1 + 1 + 1) (sl + 1000 + 1002 + 1002 + 1002 + 26 + 200 + 2200) <|
  mm_lt (mm_kn K78 (nx + 1 + 1 + 1 + 1 + 1 + 1) 64 2200) fun K83 =>
  mm_lt (mm_fresh P82 (nx + 1 + 1 + 1 + 1 + 1 + 1)) fun P84 =>
  mm_gd (K83.1 th = 37) <|
  mm_lt (sR P84 4747 th (some (nx + 1 + 1 + 1 + 1 + 1 + 1))) fun P87 =>
  mm_mo mm_waV (nx + 1 + 1 + 1 + 1 + 1 + 1 + 1 + 1) (sl + 1000 + 1002 + 1002 + 1002 + 26 + 200 + 2200 + 2200) <|
  mm_lt (mm_kn K83 (nx + 1 + 1 + 1 + 1 + 1 + 1 + 1) 64 2200) fun K88 =>
  mm_lt (mm_fresh P87 (nx + 1 + 1 + 1 + 1 + 1 + 1 + 1)) fun P89 =>
  mm_gd (K88.1 th = 37) <|
  mm_lt (sR P89 4748 th (some (nx + 1 + 1 + 1 + 1 + 1 + 1 + 1))) fun P92 =>
  mm_mo mm_waV (nx + 1 + 1 + 1 + 1 + 1 + 1 + 1 + 1 + 1) (sl + 1000 + 1002 + 1002 + 1002 + 26 + 200 + 2200 + 2200 + 6) <|
  mm_lt (mm_kn K88 (nx + 1 + 1 + 1 + 1 + 1 + 1 + 1 + 1) 66 6) fun K93 =>
  mm_lt (mm_fresh P92 (nx + 1 + 1 + 1 + 1 + 1 + 1 + 1 + 1)) fun P94 =>
  mm_gd (K93.1 th = 37) <|
  mm_lt (sR P94 4750 th (some (nx + 1 + 1 + 1 + 1 + 1 + 1 + 1 + 1))) fun P97 =>
  mm_mo mm_waV (nx + 1 + 1 + 1 + 1 + 1 + 1 + 1 + 1 + 1 + 1) (sl + 1000 + 1002 + 1002 + 1002 + 26 + 200 + 2200 + 2200 + 6 + 6) <|
  mm_lt (mm_kn K93 (nx + 1 + 1 + 1 + 1 + 1 + 1 + 1 + 1 + 1) 66 6) fun K98 =>
  mm_lt (mm_fresh P97 (nx + 1 + 1 + 1 + 1 + 1 + 1 + 1 + 1 + 1)) fun P99 =>
  mm_gd (K98.1 th = 37) <|
  mm_lt (sR P99 4751 th (some (nx + 1 + 1 + 1 + 1 + 1 + 1 + 1 + 1 + 1))) fun P102 =>
  mm_mo mm_waV (nx + 1 + 1 + 1 + 1 + 1 + 1 + 1 + 1 + 1 + 1 + 1) (sl + 1000 + 1002 + 1002 + 1002 + 26 + 200 + 2200 + 2200 + 6 + 6 + 200) <|
  mm_lt (mm_kn K98 (nx + 1 + 1 + 1 + 1 + 1 + 1 + 1 + 1 + 1 + 1) 64 200) fun K103 =>
  mm_lt (mm_fresh P102 (nx + 1 + 1 + 1 + 1 + 1 + 1 + 1 + 1 + 1 + 1)) fun P104 =>
  mm_gd (K103.1 th = 37) <|
  mm_lt (sR P104 4755 th (some (nx + 1 + 1 + 1 + 1 + 1 + 1 + 1 + 1 + 1 + 1))) fun P107 =>
  mm_mo mm_waV (nx + 1 + 1 + 1 + 1 + 1 + 1 + 1 + 1 + 1 + 1 + 1 + 1) (sl + 1000 + 1002 + 1002 + 1002 + 26 + 200 + 2200 + 2200 + 6 + 6 + 200 + 3) <|
  mm_lt (mm_kn K103 (nx + 1 + 1 + 1 + 1 + 1 + 1 + 1 + 1 + 1 + 1 + 1) 64 3) fun K108 =>
  mm_lt (mm_fresh P107 (nx + 1 + 1 + 1 + 1 + 1 + 1 + 1 + 1 + 1 + 1 + 1)) fun P109 =>
  mm_gd (K108.1 th = 37) <|
  mm_lt (sR P109 4756 th (some (nx + 1 + 1 + 1 + 1 + 1 + 1 + 1 + 1 + 1 + 1 + 1))) fun P112 =>
  mm_mo mm_waV (nx + 1 + 1 + 1 + 1 + 1 + 1 + 1 + 1 + 1 + 1 + 1 + 1 + 1) (sl + 1000 + 1002 + 1002 + 1002 + 26 + 200 + 2200 + 2200 + 6 + 6 + 200 + 3 + 1100) <|
  mm_lt (mm_kn K108 (nx + 1 + 1 + 1 + 1 + 1 + 1 + 1 + 1 + 1 + 1 + 1 + 1) 64 1100) fun K113 =>
  mm_lt (mm_fresh P112 (nx + 1 + 1 + 1 + 1 + 1 + 1 + 1 + 1 + 1 + 1 + 1 + 1)) fun P114 =>
  mm_gd (K113.1 th = 37) <|
  mm_lt (sR P114 4757 th (some (nx + 1 + 1 + 1 + 1 + 1 + 1 + 1 + 1 + 1 + 1 + 1 + 1))) fun P117 =>
  mm_mo mm_waV (nx + 1 + 1 + 1 + 1 + 1 + 1 + 1 + 1 + 1 + 1 + 1 + 1 + 1 + 1) (sl + 1000 + 1002 + 1002 + 1002 + 26 + 200 + 2200 + 2200 + 6 + 6 + 200 + 3 + 1100 + 1242) <|
  mm_lt (mm_kn K113 (nx + 1 + 1 + 1 + 1 + 1 + 1 + 1 + 1 + 1 + 1 + 1 + 1 + 1) 64 1242) fun K118 =>
  mm_lt (mm_fresh P117 (nx + 1 + 1 + 1 + 1 + 1 + 1 + 1 + 1 + 1 + 1 + 1 + 1 + 1)) fun P119 =>
  mm_gd (K118.1 th = 37) <|
  mm_lt (sR P119 4758 th (some (nx + 1 + 1 + 1 + 1 + 1 + 1 + 1 + 1 + 1 + 1 + 1 + 1 + 1))) fun P122 =>
  mm_mo mm_waV (nx + 1 + 1 + 1 + 1 + 1 + 1 + 1 + 1 + 1 + 1 + 1 + 1 + 1 + 1 + 1) (sl + 1000 + 1002 + 1002 + 1002 + 26 + 200 + 2200 + 2200 + 6 + 6 + 200 + 3 + 1100 + 1242 + 4) <|
  mm_lt (mm_kn K118 (nx + 1 + 1 + 1 + 1 + 1 + 1 + 1 + 1 + 1 + 1 + 1 + 1 + 1 + 1) 67 4) fun K123 =>
  mm_lt (mm_fresh P122 (nx + 1 + 1 + 1 + 1 + 1 + 1 + 1 + 1 + 1 + 1 + 1 + 1 + 1 + 1)) fun P124 =>
  mm_gd (K123.1 th = 37) <|
  mm_lt (sR P124 4760 th (some (nx + 1 + 1 + 1 + 1 + 1 + 1 + 1 + 1 + 1 + 1 + 1 + 1 + 1 + 1))) fun P127 =>
  mm_mo mm_waV (nx + 1 + 1 + 1 + 1 + 1 + 1 + 1 + 1 + 1 + 1 + 1 + 1 + 1 + 1 + 1 + 1) (sl + 1000 + 1002 + 1002 + 1002 + 26 + 200 + 2200 + 2200 + 6 + 6 + 200 + 3 + 1100 + 1242 + 4 + 6) <|
  mm_lt (mm_kn K123 (nx + 1 + 1 + 1 + 1 + 1 + 1 + 1 + 1 + 1 + 1 + 1 + 1 + 1 + 1 + 1) 64 6) fun K128 =>
  mm_lt (mm_fresh P127 (nx + 1 + 1 + 1 + 1 + 1 + 1 + 1 + 1 + 1 + 1 + 1 + 1 + 1 + 1 + 1)) fun P129 =>
  mm_gd (K128.1 th = 37) <|
  mm_lt (sR P129 4761 th (some (nx + 1 + 1 + 1 + 1 + 1 + 1 + 1 + 1 + 1 + 1 + 1 + 1 + 1 + 1 + 1))) fun P132 =>
  mm_mo mm_waV (nx + 1 + 1 + 1 + 1 + 1 + 1 + 1 + 1 + 1 + 1 + 1 + 1 + 1 + 1 + 1 + 1 + 1) (sl + 1000 + 1002 + 1002 + 1002 + 26 + 200 + 2200 + 2200 + 6 + 6 + 200 + 3 + 1100 + 1242 + 4 + 6 + 6) <|
  mm_lt (mm_kn K128 (nx + 1 + 1 + 1 + 1 + 1 + 1 + 1 + 1 + 1 + 1 + 1 + 1 + 1 + 1 + 1 + 1) 64 6) fun K133 =>
  mm_lt (mm_fresh P132 (nx + 1 + 1 + 1 + 1 + 1 + 1 + 1 + 1 + 1 + 1 + 1 + 1 + 1 + 1 + 1 + 1)) fun P134 =>
  mm_gd (K133.1 th = 37) <|
  mm_lt (sR P134 4762 th (some (nx + 1 + 1 + 1 + 1 + 1 + 1 + 1 + 1 + 1 + 1 + 1 + 1 + 1 + 1 + 1 + 1))) fun P137 =>
  mm_mo mm_waV (nx + 1 + 1 + 1 + 1 + 1 + 1 + 1 + 1 + 1 + 1 + 1 + 1 + 1 + 1 + 1 + 1 + 1 + 1) (sl + 1000 + 1002 + 1002 + 1002 + 26 + 200 + 2200 + 2200 + 6 + 6 + 200 + 3 + 1100 + 1242 + 4 + 6 + 6 + 6) <|
  mm_lt (mm_kn K133 (nx + 1 + 1 + 1 + 1 + 1 + 1 + 1 + 1 + 1 + 1 + 1 + 1 + 1 + 1 + 1 + 1 + 1) 64 6) fun K138 =>
  mm_lt (mm_fresh P137 (nx + 1 + 1 + 1 + 1 + 1 + 1 + 1 + 1 + 1 + 1 + 1 + 1 + 1 + 1 + 1 + 1 + 1)) fun P139 =>
  mm_gd (K138.1 th = 37) <|
  mm_lt (sR P139 4763 th (some (nx + 1 + 1 + 1 + 1 + 1 + 1 + 1 + 1 + 1 + 1 + 1 + 1 + 1 + 1 + 1 + 1 + 1))) fun P142 =>
  mm_mo mm_waV (nx + 1 + 1 + 1 + 1 + 1 + 1 + 1 + 1 + 1 + 1 + 1 + 1 + 1 + 1 + 1 + 1 + 1 + 1 + 1) (sl + 1000 + 1002 + 1002 + 1002 + 26 + 200 + 2200 + 2200 + 6 + 6 + 200 + 3 + 1100 + 1242 + 4 + 6 + 6 + 6 + 72) <|
  mm_lt (mm_kn K138 (nx + 1 + 1 + 1 + 1 + 1 + 1 + 1 + 1 + 1 + 1 + 1 + 1 + 1 + 1 + 1 + 1 + 1 + 1) 64 72) fun K143 =>
  mm_lt (mm_fresh P142 (nx + 1 + 1 + 1 + 1 + 1 + 1 + 1 + 1 + 1 + 1 + 1 + 1 + 1 + 1 + 1 + 1 + 1 + 1)) fun P144 =>
  mm_gd (K143.1 th = 37) <|
  mm_lt (sR P144 4766 th (some (nx + 1 + 1 + 1 + 1 + 1 + 1 + 1 + 1 + 1 + 1 + 1 + 1 + 1 + 1 + 1 + 1 + 1 + 1))) fun P147 =>
  mm_mo mm_waV (nx + 1 + 1 + 1 + 1 + 1 + 1 + 1 + 1 + 1 + 1 + 1 + 1 + 1 + 1 + 1 + 1 + 1 + 1 + 1 + 1) (sl + 1000 + 1002 + 1002 + 1002 + 26 + 200 + 2200 + 2200 + 6 + 6 + 200 + 3 + 1100 + 1242 + 4 + 6 + 6 + 6 + 72 + 36) <|
  mm_lt (mm_kn K143 (nx + 1 + 1 + 1 + 1 + 1 + 1 + 1 + 1 + 1 + 1 + 1 + 1 + 1 + 1 + 1 + 1 + 1 + 1 + 1) 64 36) fun K148 =>
  mm_lt (mm_fresh P147 (nx + 1 + 1 + 1 + 1 + 1 + 1 + 1 + 1 + 1 + 1 + 1 + 1 + 1 + 1 + 1 + 1 + 1 + 1 + 1)) fun P149 =>
  mm_gd (K148.1 th = 37) <|
  mm_lt (sR P149 4767 th (some (nx + 1 + 1 + 1 + 1 + 1 + 1 + 1 + 1 + 1 + 1 + 1 + 1 + 1 + 1 + 1 + 1 + 1 + 1 + 1))) fun P152 =>
  mm_mo mm_waV (nx + 1 + 1 + 1 + 1 + 1 + 1 + 1 + 1 + 1 + 1 + 1 + 1 + 1 + 1 + 1 + 1 + 1 + 1 + 1 + 1 + 1) (sl + 1000 + 1002 + 1002 + 1002 + 26 + 200 + 2200 + 2200 + 6 + 6 + 200 + 3 + 1100 + 1242 + 4 + 6 + 6 + 6 + 72 + 36 + 6) <|
  mm_lt (mm_kn K148 (nx + 1 + 1 + 1 + 1 + 1 + 1 + 1 + 1 + 1 + 1 + 1 + 1 + 1 + 1 + 1 + 1 + 1 + 1 + 1 + 1) 64 6) fun K153 =>
  mm_lt (mm_fresh P152 (nx + 1 + 1 + 1 + 1 + 1 + 1 + 1 + 1 + 1 + 1 + 1 + 1 + 1 + 1 + 1 + 1 + 1 + 1 + 1 + 1)) fun P154 =>
  mm_gd (K153.1 th = 37) <|
  mm_lt (sR P154 4768 th (some (nx + 1 + 1 + 1 + 1 + 1 + 1 + 1 + 1 + 1 + 1 + 1 + 1 + 1 + 1 + 1 + 1 + 1 + 1 + 1 + 1))) fun P157 =>
  mm_mo mm_waV (nx + 1 + 1 + 1 + 1 + 1 + 1 + 1 + 1 + 1 + 1 + 1 + 1 + 1 + 1 + 1 + 1 + 1 + 1 + 1 + 1 + 1 + 1) (sl + 1000 + 1002 + 1002 + 1002 + 26 + 200 + 2200 + 2200 + 6 + 6 + 200 + 3 + 1100 + 1242 + 4 + 6 + 6 + 6 + 72 + 36 + 6 + 6) <|
  mm_lt (mm_kn K153 (nx + 1 + 1 + 1 + 1 + 1 + 1 + 1 + 1 + 1 + 1 + 1 + 1 + 1 + 1 + 1 + 1 + 1 + 1 + 1 + 1 + 1) 64 6) fun K158 =>
  mm_lt (mm_fresh P157 (nx + 1 + 1 + 1 + 1 + 1 + 1 + 1 + 1 + 1 + 1 + 1 + 1 + 1 + 1 + 1 + 1 + 1 + 1 + 1 + 1 + 1)) fun P159 =>
  mm_gd (K158.1 th = 37) <|
  mm_lt (sR P159 4769 th (some (nx + 1 + 1 + 1 + 1 + 1 + 1 + 1 + 1 + 1 + 1 + 1 + 1 + 1 + 1 + 1 + 1 + 1 + 1 + 1 + 1 + 1))) fun P162 =>
  mm_mo mm_waV (nx + 1 + 1 + 1 + 1 + 1 + 1 + 1 + 1 + 1 + 1 + 1 + 1 + 1 + 1 + 1 + 1 + 1 + 1 + 1 + 1 + 1 + 1 + 1) (sl + 1000 + 1002 + 1002 + 1002 + 26 + 200 + 2200 + 2200 + 6 + 6 + 200 + 3 + 1100 + 1242 + 4 + 6 + 6 + 6 + 72 + 36 + 6 + 6 + 10) <|
  mm_lt (mm_kn K158 (nx + 1 + 1 + 1 + 1 + 1 + 1 + 1 + 1 + 1 + 1 + 1 + 1 + 1 + 1 + 1 + 1 + 1 + 1 + 1 + 1 + 1 + 1) 64 10) fun K163 =>
  mm_lt (mm_fresh P162 (nx + 1 + 1 + 1 + 1 + 1 + 1 + 1 + 1 + 1 + 1 + 1 + 1 + 1 + 1 + 1 + 1 + 1 + 1 + 1 + 1 + 1 + 1)) fun P164 =>
  mm_gd (K163.1 th = 37) <|
  mm_lt (sR P164 4772 th (some (nx + 1 + 1 + 1 + 1 + 1 + 1 + 1 + 1 + 1 + 1 + 1 + 1 + 1 + 1 + 1 + 1 + 1 + 1 + 1 + 1 + 1 + 1))) fun P167 =>
  mm_gd (mm_pok K163 P167 th 5 = true) <|
  mm_lt (mm_packK K163 th 5) fun K168 =>
  mm_lt (mm_packP P167 th 5) fun P169 =>
  mm_bd (fX5_standsAsAlways th (0 : Int32) P169) fun r171 =>
  mm_bd (fX5_begins th r171) fun r173 =>
  some (K168, r173, nx + 1 + 1 + 1 + 1 + 1 + 1 + 1 + 1 + 1 + 1 + 1 + 1 + 1 + 1 + 1 + 1 + 1 + 1 + 1 + 1 + 1 + 1 + 1, sl + 1000 + 1002 + 1002 + 1002 + 26 + 200 + 2200 + 2200 + 6 + 6 + 200 + 3 + 1100 + 1242 + 4 + 6 + 6 + 6 + 72 + 36 + 6 + 6 + 10)
set_option maxHeartbeats 4000000 in
theorem mc_X5_init {l : Launch} {K : mm_K} {P : mm_P} {th : Nat}  {nx sl : Nat} {r : mm_S} (hk : K.1 th = 37) (h : fX5_init th K P nx sl = some r) : mm_C l yX5_init (ws_ yX5_init cX5_init 1 none) 2 43 [.ref th] K P nx sl (mm_waV r) :=
  mm_start (ls := [some (.ref th)]) h (by decide) (Nat.le_of_ble_eq_true rfl) rfl (mm_mo_some h).2.1 (mm_mo_some h).2.2 rfl fun E hl9 _ _ hin C => by
  have hin := hin rfl
  have C : mm_Cx E RX5 cX5_init 1 none 2 43 := C
  unfold fX5_init
  refine r_mo ?_
  refine r_aload_n C dX5_init_0 rfl rfl ?_
  refine r_objinit C q1624 q181 q182 (Nat.le_of_ble_eq_true rfl) (Nat.le_of_ble_eq_true rfl) (Nat.le_of_ble_eq_true rfl) dX5_init_1 ?_
  refine r_aload_n C dX5_init_4 rfl rfl ?_
  refine r_sipush (v := 1000) C dX5_init_5 rfl ?_
  refine mm_newa (ek := 0) C (by decide) q298 rfl (by decide) (N := 1000) (by decide) (by decide) dX5_init_8 ?_
  refine r_ltK fun K1 e3 => ?_
  refine r_ltP fun P2 => ?_
  refine r_gd fun hK4 => ?_
  refine r_putRF (code := 4737) (x := (some nx)) C hin ff_X5_14_37 hK4 rfl rfl rfl (mm_nrA _) (mm_ftA _) dX5_init_10 ?_
  refine r_ltP fun P5 => ?_
  refine r_aload_n C dX5_init_13 rfl rfl ?_
  refine r_sipush (v := 1002) C dX5_init_14 rfl ?_
  refine mm_newa (ek := 0) C (by decide) q298 rfl (by decide) (N := 1002) (by decide) (by decide) dX5_init_17 ?_
  refine r_ltK fun K6 e8 => ?_
  refine r_ltP fun P7 => ?_
  refine r_gd fun hK9 => ?_
  refine r_putRF (code := 4740) (x := (some (nx + 1))) C hin ff_X5_24_37 hK9 rfl rfl rfl (mm_nrA _) (mm_ftA _) dX5_init_19 ?_
  refine r_ltP fun P10 => ?_
  refine r_aload_n C dX5_init_22 rfl rfl ?_
  refine r_sipush (v := 1002) C dX5_init_23 rfl ?_
  refine mm_newa (ek := 0) C (by decide) q298 rfl (by decide) (N := 1002) (by decide) (by decide) dX5_init_26 ?_
  refine r_ltK fun K11 e13 => ?_
  refine r_ltP fun P12 => ?_
  refine r_gd fun hK14 => ?_
  refine r_putRF (code := 4741) (x := (some (nx + 1 + 1))) C hin ff_X5_27_37 hK14 rfl rfl rfl (mm_nrA _) (mm_ftA _) dX5_init_28 ?_
  refine r_ltP fun P15 => ?_
  refine r_aload_n C dX5_init_31 rfl rfl ?_
  refine r_sipush (v := 1002) C dX5_init_32 rfl ?_
  refine mm_newa (ek := 2) C (by decide) q1778 rfl (by decide) (N := 1002) (by decide) (by decide) dX5_init_35 ?_
  refine r_ltK fun K16 e18 => ?_
  refine r_ltP fun P17 => ?_
  refine r_gd fun hK19 => ?_
  refine r_putRF (code := 4742) (x := (some (nx + 1 + 1 + 1))) C hin ff_X5_30_37 hK19 rfl rfl rfl (mm_nrA _) (mm_ftA _) dX5_init_37 ?_
  refine r_ltP fun P20 => ?_
  refine r_aload_n C dX5_init_40 rfl rfl ?_
  refine r_bipush (v := 26) C dX5_init_41 rfl ?_
  refine mm_newa (ek := 2) C (by decide) q1778 rfl (by decide) (N := 26) (by decide) (by decide) dX5_init_43 ?_
  refine r_ltK fun K21 e23 => ?_
  refine r_ltP fun P22 => ?_
  refine r_dup C dX5_init_45 rfl ?_
  refine r_iconst (v := 0) C dX5_init_46 rfl ?_
  refine r_ldc2 (v := 6251602) C dX5_init_47 q1625 ?_
  refine r_last C (rg_sa (ek := 2) (by rw [e23]; exact mm_kn_1)) (mm_ro_of (k := 66) (by rw [e23]; exact mm_kn_1) rfl) rfl dX5_init_50 fun h24 => ?_
  refine r_ltP fun P25 => ?_
  refine r_dup C dX5_init_51 rfl ?_
  refine r_iconst (v := 1) C dX5_init_52 rfl ?_
  refine r_ldc2 (v := 1177493) C dX5_init_53 q1626 ?_
  refine r_last C (rg_sa (ek := 2) (by rw [e23]; exact mm_kn_1)) (mm_ro_of (k := 66) (by rw [e23]; exact mm_kn_1) rfl) rfl dX5_init_56 fun h26 => ?_
  refine r_ltP fun P27 => ?_
  refine r_dup C dX5_init_57 rfl ?_
  refine r_iconst (v := 2) C dX5_init_58 rfl ?_
  refine r_ldc2 (v := 1604747592) C dX5_init_59 q1627 ?_
  refine r_last C (rg_sa (ek := 2) (by rw [e23]; exact mm_kn_1)) (mm_ro_of (k := 66) (by rw [e23]; exact mm_kn_1) rfl) rfl dX5_init_62 fun h28 => ?_
  refine r_ltP fun P29 => ?_
  refine r_dup C dX5_init_63 rfl ?_
  refine r_iconst (v := 3) C dX5_init_64 rfl ?_
  refine r_ldc2 (v := 43890888) C dX5_init_65 q1628 ?_
  refine r_last C (rg_sa (ek := 2) (by rw [e23]; exact mm_kn_1)) (mm_ro_of (k := 66) (by rw [e23]; exact mm_kn_1) rfl) rfl dX5_init_68 fun h30 => ?_
  refine r_ltP fun P31 => ?_
  refine r_dup C dX5_init_69 rfl ?_
  refine r_iconst (v := 4) C dX5_init_70 rfl ?_
  refine r_ldc2 (v := 817571) C dX5_init_71 q1629 ?_
  refine r_last C (rg_sa (ek := 2) (by rw [e23]; exact mm_kn_1)) (mm_ro_of (k := 66) (by rw [e23]; exact mm_kn_1) rfl) rfl dX5_init_74 fun h32 => ?_
  refine r_ltP fun P33 => ?_
  refine r_dup C dX5_init_75 rfl ?_
  refine r_iconst (v := 5) C dX5_init_76 rfl ?_
  refine r_ldc2 (v := 43580913) C dX5_init_77 q1630 ?_
  refine r_last C (rg_sa (ek := 2) (by rw [e23]; exact mm_kn_1)) (mm_ro_of (k := 66) (by rw [e23]; exact mm_kn_1) rfl) rfl dX5_init_80 fun h34 => ?_
  refine r_ltP fun P35 => ?_
  refine r_dup C dX5_init_81 rfl ?_
  refine r_bipush (v := 6) C dX5_init_82 rfl ?_
  refine r_ldc2 (v := 46929487) C dX5_init_84 q1631 ?_
  refine r_last C (rg_sa (ek := 2) (by rw [e23]; exact mm_kn_1)) (mm_ro_of (k := 66) (by rw [e23]; exact mm_kn_1) rfl) rfl dX5_init_87 fun h36 => ?_
  refine r_ltP fun P37 => ?_
  refine r_dup C dX5_init_88 rfl ?_
  refine r_bipush (v := 7) C dX5_init_89 rfl ?_
  refine r_ldc2 (v := 14209610) C dX5_init_91 q1632 ?_
  refine r_last C (rg_sa (ek := 2) (by rw [e23]; exact mm_kn_1)) (mm_ro_of (k := 66) (by rw [e23]; exact mm_kn_1) rfl) rfl dX5_init_94 fun h38 => ?_
  refine r_ltP fun P39 => ?_
  refine r_dup C dX5_init_95 rfl ?_
  refine r_bipush (v := 8) C dX5_init_96 rfl ?_
  refine r_ldc2 (v := 6232399) C dX5_init_98 q1633 ?_
  refine r_last C (rg_sa (ek := 2) (by rw [e23]; exact mm_kn_1)) (mm_ro_of (k := 66) (by rw [e23]; exact mm_kn_1) rfl) rfl dX5_init_101 fun h40 => ?_
  refine r_ltP fun P41 => ?_
  refine r_dup C dX5_init_102 rfl ?_
  refine r_bipush (v := 9) C dX5_init_103 rfl ?_
  refine r_ldc2 (v := 31067180) C dX5_init_105 q1634 ?_
  refine r_last C (rg_sa (ek := 2) (by rw [e23]; exact mm_kn_1)) (mm_ro_of (k := 66) (by rw [e23]; exact mm_kn_1) rfl) rfl dX5_init_108 fun h42 => ?_
  refine r_ltP fun P43 => ?_
  refine r_dup C dX5_init_109 rfl ?_
  refine r_bipush (v := 10) C dX5_init_110 rfl ?_
  refine r_ldc2 (v := 8420923) C dX5_init_112 q1635 ?_
  refine r_last C (rg_sa (ek := 2) (by rw [e23]; exact mm_kn_1)) (mm_ro_of (k := 66) (by rw [e23]; exact mm_kn_1) rfl) rfl dX5_init_115 fun h44 => ?_
  refine r_ltP fun P45 => ?_
  refine r_dup C dX5_init_116 rfl ?_
  refine r_bipush (v := 11) C dX5_init_117 rfl ?_
  refine r_ldc2 (v := 407118) C dX5_init_119 q1636 ?_
  refine r_last C (rg_sa (ek := 2) (by rw [e23]; exact mm_kn_1)) (mm_ro_of (k := 66) (by rw [e23]; exact mm_kn_1) rfl) rfl dX5_init_122 fun h46 => ?_
  refine r_ltP fun P47 => ?_
  refine r_dup C dX5_init_123 rfl ?_
  refine r_bipush (v := 12) C dX5_init_124 rfl ?_
  refine r_ldc2 (v := 1014841) C dX5_init_126 q1637 ?_
  refine r_last C (rg_sa (ek := 2) (by rw [e23]; exact mm_kn_1)) (mm_ro_of (k := 66) (by rw [e23]; exact mm_kn_1) rfl) rfl dX5_init_129 fun h48 => ?_
  refine r_ltP fun P49 => ?_
  refine r_dup C dX5_init_130 rfl ?_
  refine r_bipush (v := 13) C dX5_init_131 rfl ?_
  refine r_ldc2 (v := 1167099) C dX5_init_133 q1638 ?_
  refine r_last C (rg_sa (ek := 2) (by rw [e23]; exact mm_kn_1)) (mm_ro_of (k := 66) (by rw [e23]; exact mm_kn_1) rfl) rfl dX5_init_136 fun h50 => ?_
  refine r_ltP fun P51 => ?_
  refine r_dup C dX5_init_137 rfl ?_
  refine r_bipush (v := 14) C dX5_init_138 rfl ?_
  refine r_ldc2 (v := 3540) C dX5_init_140 q1639 ?_
  refine r_last C (rg_sa (ek := 2) (by rw [e23]; exact mm_kn_1)) (mm_ro_of (k := 66) (by rw [e23]; exact mm_kn_1) rfl) rfl dX5_init_143 fun h52 => ?_
  refine r_ltP fun P53 => ?_
  refine r_dup C dX5_init_144 rfl ?_
  refine r_bipush (v := 15) C dX5_init_145 rfl ?_
  refine r_ldc2 (v := 426554) C dX5_init_147 q1640 ?_
  refine r_last C (rg_sa (ek := 2) (by rw [e23]; exact mm_kn_1)) (mm_ro_of (k := 66) (by rw [e23]; exact mm_kn_1) rfl) rfl dX5_init_150 fun h54 => ?_
  refine r_ltP fun P55 => ?_
  refine r_dup C dX5_init_151 rfl ?_
  refine r_bipush (v := 16) C dX5_init_152 rfl ?_
  refine r_ldc2 (v := 30596128) C dX5_init_154 q1641 ?_
  refine r_last C (rg_sa (ek := 2) (by rw [e23]; exact mm_kn_1)) (mm_ro_of (k := 66) (by rw [e23]; exact mm_kn_1) rfl) rfl dX5_init_157 fun h56 => ?_
  refine r_ltP fun P57 => ?_
  refine r_dup C dX5_init_158 rfl ?_
  refine r_bipush (v := 17) C dX5_init_159 rfl ?_
  refine r_ldc2 (v := 36021333) C dX5_init_161 q1642 ?_
  refine r_last C (rg_sa (ek := 2) (by rw [e23]; exact mm_kn_1)) (mm_ro_of (k := 66) (by rw [e23]; exact mm_kn_1) rfl) rfl dX5_init_164 fun h58 => ?_
  refine r_ltP fun P59 => ?_
  refine r_dup C dX5_init_165 rfl ?_
  refine r_bipush (v := 18) C dX5_init_166 rfl ?_
  refine r_ldc2 (v := 320390) C dX5_init_168 q1643 ?_
  refine r_last C (rg_sa (ek := 2) (by rw [e23]; exact mm_kn_1)) (mm_ro_of (k := 66) (by rw [e23]; exact mm_kn_1) rfl) rfl dX5_init_171 fun h60 => ?_
  refine r_ltP fun P61 => ?_
  refine r_dup C dX5_init_172 rfl ?_
  refine r_bipush (v := 19) C dX5_init_173 rfl ?_
  refine r_ldc2 (v := 1186121) C dX5_init_175 q1644 ?_
  refine r_last C (rg_sa (ek := 2) (by rw [e23]; exact mm_kn_1)) (mm_ro_of (k := 66) (by rw [e23]; exact mm_kn_1) rfl) rfl dX5_init_178 fun h62 => ?_
  refine r_ltP fun P63 => ?_
  refine r_dup C dX5_init_179 rfl ?_
  refine r_bipush (v := 20) C dX5_init_180 rfl ?_
  refine r_ldc2 (v := 19741) C dX5_init_182 q1645 ?_
  refine r_last C (rg_sa (ek := 2) (by rw [e23]; exact mm_kn_1)) (mm_ro_of (k := 66) (by rw [e23]; exact mm_kn_1) rfl) rfl dX5_init_185 fun h64 => ?_
  refine r_ltP fun P65 => ?_
  refine r_dup C dX5_init_186 rfl ?_
  refine r_bipush (v := 21) C dX5_init_187 rfl ?_
  refine r_ldc2 (v := 1891) C dX5_init_189 q1646 ?_
  refine r_last C (rg_sa (ek := 2) (by rw [e23]; exact mm_kn_1)) (mm_ro_of (k := 66) (by rw [e23]; exact mm_kn_1) rfl) rfl dX5_init_192 fun h66 => ?_
  refine r_ltP fun P67 => ?_
  refine r_dup C dX5_init_193 rfl ?_
  refine r_bipush (v := 22) C dX5_init_194 rfl ?_
  refine r_ldc2 (v := 573) C dX5_init_196 q1647 ?_
  refine r_last C (rg_sa (ek := 2) (by rw [e23]; exact mm_kn_1)) (mm_ro_of (k := 66) (by rw [e23]; exact mm_kn_1) rfl) rfl dX5_init_199 fun h68 => ?_
  refine r_ltP fun P69 => ?_
  refine r_dup C dX5_init_200 rfl ?_
  refine r_bipush (v := 23) C dX5_init_201 rfl ?_
  refine r_ldc2 (v := 1177862) C dX5_init_203 q1648 ?_
  refine r_last C (rg_sa (ek := 2) (by rw [e23]; exact mm_kn_1)) (mm_ro_of (k := 66) (by rw [e23]; exact mm_kn_1) rfl) rfl dX5_init_206 fun h70 => ?_
  refine r_ltP fun P71 => ?_
  refine r_dup C dX5_init_207 rfl ?_
  refine r_bipush (v := 24) C dX5_init_208 rfl ?_
  refine r_ldc2 (v := 660580) C dX5_init_210 q1649 ?_
  refine r_last C (rg_sa (ek := 2) (by rw [e23]; exact mm_kn_1)) (mm_ro_of (k := 66) (by rw [e23]; exact mm_kn_1) rfl) rfl dX5_init_213 fun h72 => ?_
  refine r_ltP fun P73 => ?_
  refine r_dup C dX5_init_214 rfl ?_
  refine r_bipush (v := 25) C dX5_init_215 rfl ?_
  refine r_ldc2 (v := 975695) C dX5_init_217 q1650 ?_
  refine r_last C (rg_sa (ek := 2) (by rw [e23]; exact mm_kn_1)) (mm_ro_of (k := 66) (by rw [e23]; exact mm_kn_1) rfl) rfl dX5_init_220 fun h74 => ?_
  refine r_ltP fun P75 => ?_
  refine r_gd fun hK76 => ?_
  refine r_putRF (code := 4745) (x := (some (nx + 1 + 1 + 1 + 1))) C hin ff_X5_86_37 hK76 rfl rfl rfl (mm_nrA _) (mm_ftA _) dX5_init_221 ?_
  refine r_ltP fun P77 => ?_
  refine r_aload_n C dX5_init_224 rfl rfl ?_
  refine r_sipush (v := 200) C dX5_init_225 rfl ?_
  refine mm_newa (ek := 0) C (by decide) q298 rfl (by decide) (N := 200) (by decide) (by decide) dX5_init_228 ?_
  refine r_ltK fun K78 e80 => ?_
  refine r_ltP fun P79 => ?_
  refine r_gd fun hK81 => ?_
  refine r_putRF (code := 4746) (x := (some (nx + 1 + 1 + 1 + 1 + 1))) C hin ff_X5_89_37 hK81 rfl rfl rfl (mm_nrA _) (mm_ftA _) dX5_init_230 ?_
  refine r_ltP fun P82 => ?_
  refine r_aload_n C dX5_init_233 rfl rfl ?_
  refine r_sipush (v := 2200) C dX5_init_234 rfl ?_
  refine mm_newa (ek := 0) C (by decide) q298 rfl (by decide) (N := 2200) (by decide) (by decide) dX5_init_237 ?_
  refine r_ltK fun K83 e85 => ?_
  refine r_ltP fun P84 => ?_
  refine r_gd fun hK86 => ?_
  refine r_putRF (code := 4747) (x := (some (nx + 1 + 1 + 1 + 1 + 1 + 1))) C hin ff_X5_92_37 hK86 rfl rfl rfl (mm_nrA _) (mm_ftA _) dX5_init_239 ?_
  refine r_ltP fun P87 => ?_
  refine r_aload_n C dX5_init_242 rfl rfl ?_
  refine r_sipush (v := 2200) C dX5_init_243 rfl ?_
  refine mm_newa (ek := 0) C (by decide) q298 rfl (by decide) (N := 2200) (by decide) (by decide) dX5_init_246 ?_
  refine r_ltK fun K88 e90 => ?_
  refine r_ltP fun P89 => ?_
  refine r_gd fun hK91 => ?_
  refine r_putRF (code := 4748) (x := (some (nx + 1 + 1 + 1 + 1 + 1 + 1 + 1))) C hin ff_X5_95_37 hK91 rfl rfl rfl (mm_nrA _) (mm_ftA _) dX5_init_248 ?_
  refine r_ltP fun P92 => ?_
  refine r_aload_n C dX5_init_251 rfl rfl ?_
  refine r_bipush (v := 6) C dX5_init_252 rfl ?_
  refine mm_newa (ek := 2) C (by decide) q1778 rfl (by decide) (N := 6) (by decide) (by decide) dX5_init_254 ?_
  refine r_ltK fun K93 e95 => ?_
  refine r_ltP fun P94 => ?_
  refine r_gd fun hK96 => ?_
  refine r_putRF (code := 4750) (x := (some (nx + 1 + 1 + 1 + 1 + 1 + 1 + 1 + 1))) C hin ff_X5_98_37 hK96 rfl rfl rfl (mm_nrA _) (mm_ftA _) dX5_init_256 ?_
  refine r_ltP fun P97 => ?_
  refine r_aload_n C dX5_init_259 rfl rfl ?_
  refine r_bipush (v := 6) C dX5_init_260 rfl ?_
  refine mm_newa (ek := 2) C (by decide) q1778 rfl (by decide) (N := 6) (by decide) (by decide) dX5_init_262 ?_
  refine r_ltK fun K98 e100 => ?_
  refine r_ltP fun P99 => ?_
  refine r_gd fun hK101 => ?_
  refine r_putRF (code := 4751) (x := (some (nx + 1 + 1 + 1 + 1 + 1 + 1 + 1 + 1 + 1))) C hin ff_X5_101_37 hK101 rfl rfl rfl (mm_nrA _) (mm_ftA _) dX5_init_264 ?_
  refine r_ltP fun P102 => ?_
  refine r_aload_n C dX5_init_267 rfl rfl ?_
  refine r_sipush (v := 200) C dX5_init_268 rfl ?_
  refine mm_newa (ek := 0) C (by decide) q298 rfl (by decide) (N := 200) (by decide) (by decide) dX5_init_271 ?_
  refine r_ltK fun K103 e105 => ?_
  refine r_ltP fun P104 => ?_
  refine r_gd fun hK106 => ?_
  refine r_putRF (code := 4755) (x := (some (nx + 1 + 1 + 1 + 1 + 1 + 1 + 1 + 1 + 1 + 1))) C hin ff_X5_104_37 hK106 rfl rfl rfl (mm_nrA _) (mm_ftA _) dX5_init_273 ?_
  refine r_ltP fun P107 => ?_
  refine r_aload_n C dX5_init_276 rfl rfl ?_
  refine r_iconst (v := 3) C dX5_init_277 rfl ?_
  refine mm_newa (ek := 0) C (by decide) q298 rfl (by decide) (N := 3) (by decide) (by decide) dX5_init_278 ?_
  refine r_ltK fun K108 e110 => ?_
  refine r_ltP fun P109 => ?_
  refine r_gd fun hK111 => ?_
  refine r_putRF (code := 4756) (x := (some (nx + 1 + 1 + 1 + 1 + 1 + 1 + 1 + 1 + 1 + 1 + 1))) C hin ff_X5_107_37 hK111 rfl rfl rfl (mm_nrA _) (mm_ftA _) dX5_init_280 ?_
  refine r_ltP fun P112 => ?_
  refine r_aload_n C dX5_init_283 rfl rfl ?_
  refine r_sipush (v := 1100) C dX5_init_284 rfl ?_
  refine mm_newa (ek := 0) C (by decide) q298 rfl (by decide) (N := 1100) (by decide) (by decide) dX5_init_287 ?_
  refine r_ltK fun K113 e115 => ?_
  refine r_ltP fun P114 => ?_
  refine r_gd fun hK116 => ?_
  refine r_putRF (code := 4757) (x := (some (nx + 1 + 1 + 1 + 1 + 1 + 1 + 1 + 1 + 1 + 1 + 1 + 1))) C hin ff_X5_110_37 hK116 rfl rfl rfl (mm_nrA _) (mm_ftA _) dX5_init_289 ?_
  refine r_ltP fun P117 => ?_
  refine r_aload_n C dX5_init_292 rfl rfl ?_
  refine r_sipush (v := 1242) C dX5_init_293 rfl ?_
  refine mm_newa (ek := 0) C (by decide) q298 rfl (by decide) (N := 1242) (by decide) (by decide) dX5_init_296 ?_
  refine r_ltK fun K118 e120 => ?_
  refine r_ltP fun P119 => ?_
  refine r_gd fun hK121 => ?_
  refine r_putRF (code := 4758) (x := (some (nx + 1 + 1 + 1 + 1 + 1 + 1 + 1 + 1 + 1 + 1 + 1 + 1 + 1))) C hin ff_X5_113_37 hK121 rfl rfl rfl (mm_nrA _) (mm_ftA _) dX5_init_298 ?_
  refine r_ltP fun P122 => ?_
  refine r_aload_n C dX5_init_301 rfl rfl ?_
  refine r_iconst (v := 4) C dX5_init_302 rfl ?_
  refine mm_newa (ek := 3) C (by decide) q1779 rfl (by decide) (N := 4) (by decide) (by decide) dX5_init_303 ?_
  refine r_ltK fun K123 e125 => ?_
  refine r_ltP fun P124 => ?_
  refine r_gd fun hK126 => ?_
  refine r_putRF (code := 4760) (x := (some (nx + 1 + 1 + 1 + 1 + 1 + 1 + 1 + 1 + 1 + 1 + 1 + 1 + 1 + 1))) C hin ff_X5_116_37 hK126 rfl rfl rfl (mm_nrA _) (mm_ftA _) dX5_init_305 ?_
  refine r_ltP fun P127 => ?_
  refine r_aload_n C dX5_init_308 rfl rfl ?_
  refine r_bipush (v := 6) C dX5_init_309 rfl ?_
  refine mm_newa (ek := 0) C (by decide) q298 rfl (by decide) (N := 6) (by decide) (by decide) dX5_init_311 ?_
  refine r_ltK fun K128 e130 => ?_
  refine r_ltP fun P129 => ?_
  refine r_gd fun hK131 => ?_
  refine r_putRF (code := 4761) (x := (some (nx + 1 + 1 + 1 + 1 + 1 + 1 + 1 + 1 + 1 + 1 + 1 + 1 + 1 + 1 + 1))) C hin ff_X5_120_37 hK131 rfl rfl rfl (mm_nrA _) (mm_ftA _) dX5_init_313 ?_
  refine r_ltP fun P132 => ?_
  refine r_aload_n C dX5_init_316 rfl rfl ?_
  refine r_bipush (v := 6) C dX5_init_317 rfl ?_
  refine mm_newa (ek := 0) C (by decide) q298 rfl (by decide) (N := 6) (by decide) (by decide) dX5_init_319 ?_
  refine r_ltK fun K133 e135 => ?_
  refine r_ltP fun P134 => ?_
  refine r_gd fun hK136 => ?_
  refine r_putRF (code := 4762) (x := (some (nx + 1 + 1 + 1 + 1 + 1 + 1 + 1 + 1 + 1 + 1 + 1 + 1 + 1 + 1 + 1 + 1))) C hin ff_X5_123_37 hK136 rfl rfl rfl (mm_nrA _) (mm_ftA _) dX5_init_321 ?_
  refine r_ltP fun P137 => ?_
  refine r_aload_n C dX5_init_324 rfl rfl ?_
  refine r_bipush (v := 6) C dX5_init_325 rfl ?_
  refine mm_newa (ek := 0) C (by decide) q298 rfl (by decide) (N := 6) (by decide) (by decide) dX5_init_327 ?_
  refine r_ltK fun K138 e140 => ?_
  refine r_ltP fun P139 => ?_
  refine r_gd fun hK141 => ?_
  refine r_putRF (code := 4763) (x := (some (nx + 1 + 1 + 1 + 1 + 1 + 1 + 1 + 1 + 1 + 1 + 1 + 1 + 1 + 1 + 1 + 1 + 1))) C hin ff_X5_126_37 hK141 rfl rfl rfl (mm_nrA _) (mm_ftA _) dX5_init_329 ?_
  refine r_ltP fun P142 => ?_
  refine r_aload_n C dX5_init_332 rfl rfl ?_
  refine r_bipush (v := 72) C dX5_init_333 rfl ?_
  refine mm_newa (ek := 0) C (by decide) q298 rfl (by decide) (N := 72) (by decide) (by decide) dX5_init_335 ?_
  refine r_ltK fun K143 e145 => ?_
  refine r_ltP fun P144 => ?_
  refine r_gd fun hK146 => ?_
  refine r_putRF (code := 4766) (x := (some (nx + 1 + 1 + 1 + 1 + 1 + 1 + 1 + 1 + 1 + 1 + 1 + 1 + 1 + 1 + 1 + 1 + 1 + 1))) C hin ff_X5_129_37 hK146 rfl rfl rfl (mm_nrA _) (mm_ftA _) dX5_init_337 ?_
  refine r_ltP fun P147 => ?_
  refine r_aload_n C dX5_init_340 rfl rfl ?_
  refine r_bipush (v := 36) C dX5_init_341 rfl ?_
  refine mm_newa (ek := 0) C (by decide) q298 rfl (by decide) (N := 36) (by decide) (by decide) dX5_init_343 ?_
  refine r_ltK fun K148 e150 => ?_
  refine r_ltP fun P149 => ?_
  refine r_gd fun hK151 => ?_
  refine r_putRF (code := 4767) (x := (some (nx + 1 + 1 + 1 + 1 + 1 + 1 + 1 + 1 + 1 + 1 + 1 + 1 + 1 + 1 + 1 + 1 + 1 + 1 + 1))) C hin ff_X5_132_37 hK151 rfl rfl rfl (mm_nrA _) (mm_ftA _) dX5_init_345 ?_
  refine r_ltP fun P152 => ?_
  refine r_aload_n C dX5_init_348 rfl rfl ?_
  refine r_bipush (v := 6) C dX5_init_349 rfl ?_
  refine mm_newa (ek := 0) C (by decide) q298 rfl (by decide) (N := 6) (by decide) (by decide) dX5_init_351 ?_
  refine r_ltK fun K153 e155 => ?_
  refine r_ltP fun P154 => ?_
  refine r_gd fun hK156 => ?_
  refine r_putRF (code := 4768) (x := (some (nx + 1 + 1 + 1 + 1 + 1 + 1 + 1 + 1 + 1 + 1 + 1 + 1 + 1 + 1 + 1 + 1 + 1 + 1 + 1 + 1))) C hin ff_X5_135_37 hK156 rfl rfl rfl (mm_nrA _) (mm_ftA _) dX5_init_353 ?_
  refine r_ltP fun P157 => ?_
  refine r_aload_n C dX5_init_356 rfl rfl ?_
  refine r_bipush (v := 6) C dX5_init_357 rfl ?_
  refine mm_newa (ek := 0) C (by decide) q298 rfl (by decide) (N := 6) (by decide) (by decide) dX5_init_359 ?_
  refine r_ltK fun K158 e160 => ?_
  refine r_ltP fun P159 => ?_
  refine r_gd fun hK161 => ?_
  refine r_putRF (code := 4769) (x := (some (nx + 1 + 1 + 1 + 1 + 1 + 1 + 1 + 1 + 1 + 1 + 1 + 1 + 1 + 1 + 1 + 1 + 1 + 1 + 1 + 1 + 1))) C hin ff_X5_138_37 hK161 rfl rfl rfl (mm_nrA _) (mm_ftA _) dX5_init_361 ?_
  refine r_ltP fun P162 => ?_
  refine r_aload_n C dX5_init_364 rfl rfl ?_
  refine r_bipush (v := 10) C dX5_init_365 rfl ?_
  refine mm_newa (ek := 0) C (by decide) q298 rfl (by decide) (N := 10) (by decide) (by decide) dX5_init_367 ?_
  refine r_ltK fun K163 e165 => ?_
  refine r_ltP fun P164 => ?_
  refine r_gd fun hK166 => ?_
  refine r_putRF (code := 4772) (x := (some (nx + 1 + 1 + 1 + 1 + 1 + 1 + 1 + 1 + 1 + 1 + 1 + 1 + 1 + 1 + 1 + 1 + 1 + 1 + 1 + 1 + 1 + 1))) C hin ff_X5_141_37 hK166 rfl rfl rfl (mm_nrA _) (mm_ftA _) dX5_init_369 ?_
  refine r_ltP fun P167 => ?_
  refine r_aload_n C dX5_init_372 rfl rfl ?_
  refine r_iconst (v := 0) C dX5_init_373 rfl ?_
  refine r_pack rfl (by decide) rfl rfl ?_
  refine r_ltK fun K168 e170 => ?_
  refine r_ltP fun P169 => ?_
  refine r_bd fun r171 h172 => ?_
  refine r_callVv (As := [.int (0 : Int32)]) (st := []) C (mc_X5_standsAsAlways (by rw [e170]; exact if_pos rfl) h172) cv_X5_144 (by rw [e170]; exact if_pos rfl) rfl (Nat.le_of_ble_eq_true rfl) (Nat.le_of_ble_eq_true rfl) rfl (Nat.le_of_ble_eq_true rfl) dX5_init_374 ?_
  refine r_aload_n C dX5_init_377 rfl rfl ?_
  refine r_bd fun r173 h174 => ?_
  refine r_callVv (As := []) (st := []) C (mc_X5_begins (by rw [e170]; exact if_pos rfl) h174) cv_X5_148 (by rw [e170]; exact if_pos rfl) rfl (Nat.le_of_ble_eq_true rfl) (Nat.le_of_ble_eq_true rfl) rfl (Nat.le_of_ble_eq_true rfl) dX5_init_378 ?_
  exact r_vret C dX5_init_381 rfl
