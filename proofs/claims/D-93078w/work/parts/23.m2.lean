set_option maxRecDepth 100000
set_option maxHeartbeats 400000 in
theorem mM_hold {G : zG} (v most : Int32) : zRd G yX10_hold (ws_ yX10_hold cX10_hold 2 (some .int)) (zRm 1 0 0 30) [.int v, .int most] [] (fun v9 => v9 = some (.int (holdF v most))) := by
  refine zRd.of (by decide +kernel) (Nat.le_of_ble_eq_true rfl) ?_
  intro p e s m args below meth c hz hP hr hlk Q hQ
  refine z_lv (lv' := [(0, .int v), (1, .int most)]) [0, 1] rfl ?_
  refine z_iconst hz 0 dX10_hold_0 ki_0 ?_
  refine z_iload_n hz dX10_hold_1 1 rfl rfl ?_
  refine z_iload_n hz dX10_hold_2 0 rfl rfl ?_
  refine z_mmin hz q2112 (Nat.le_of_ble_eq_true rfl) (Nat.le_of_ble_eq_true rfl) ⟨Nat.le_of_ble_eq_true rfl, Nat.le_of_ble_eq_true rfl⟩ dX10_hold_3 ?_
  refine z_mmax hz q2113 (Nat.le_of_ble_eq_true rfl) (Nat.le_of_ble_eq_true rfl) ⟨Nat.le_of_ble_eq_true rfl, Nat.le_of_ble_eq_true rfl⟩ dX10_hold_6 ?_
  exact zr_iret hQ hz hr hlk dX10_hold_9 rfl
set_option maxHeartbeats 400000 in
theorem mM_bits {G : zG} (x : Int32) : zRd G yX10_bits (ws_ yX10_bits cX10_bits 3 (some .int)) (zRm 0 0 0 0) [.int x] [] (fun v9 => v9 = some (.int (bitsF x 16))) := by
  refine zRd.of (by decide +kernel) (Nat.le_of_ble_eq_true rfl) ?_
  intro p e s m args below meth c hz hP hr hlk Q hQ
  refine z_lv (lv' := [(0, .int x)]) [0] rfl ?_
  refine z_iconst hz 0 dX10_bits_0 ki_0 ?_
  refine z_istore_n (lv' := [(0, .int x), (1, .int 0)]) hz [1, 0] dX10_bits_1 rfl (by decide) rfl ?_
  refine z_iconst hz 0 dX10_bits_2 ki_0 ?_
  refine z_istore_n (lv' := [(0, .int x), (1, .int 0), (2, .int 0)]) hz [1, 2, 0] dX10_bits_3 rfl (by decide) rfl ?_
  have lp_4 : ∀ (n9 : Nat) (k : Nat) (y : Int32), k ≤ 16 → y = bitsF x k → 16 - k < n9 → zW p G.1 e (zRm 0 0 0 0) s m args below meth c 3 Q 0 0 (zΨ s) 4 [(0, .int x), (1, .int y), (2, .int (nI k))] [] := by
    intro n9
    induction n9 with
    | zero => intro _ _ _ _ hm; exact absurd hm (Nat.not_lt_zero _)
    | succ n9 ih_4 =>
      intro k y hk hx hm_4
      refine z_iload_n hz dX10_bits_4 2 rfl rfl ?_
      refine z_bipush hz 16 dX10_bits_5 kb_16 ?_
      refine z_icmpN_ge hz rfl kn_16 (by omega) (by decide) 24 dX10_bits_7 (by decide) (fun c1 => ?_) (fun c1 => ?_)
      · refine z_iload_n hz dX10_bits_24 1 rfl rfl ?_
        exact zr_iret hQ hz hr hlk dX10_bits_25 (by rw [hx, show k = 16 by omega])
      · refine z_iload_n hz dX10_bits_10 1 rfl rfl ?_
        refine z_iload_n hz dX10_bits_11 0 rfl rfl ?_
        refine z_iload_n hz dX10_bits_12 2 rfl rfl ?_
        refine z_ishr hz dX10_bits_13 ?_
        refine z_iconst hz 1 dX10_bits_14 ki_1 ?_
        refine z_iand hz dX10_bits_15 ?_
        refine z_iadd hz dX10_bits_16 ?_
        refine z_istore_n (lv' := [(0, .int x), (1, .int (y + ((x >>> ((nI k) &&& 31)) &&& 1))), (2, .int (nI k))]) hz [1, 0, 2] dX10_bits_17 rfl (by decide) rfl ?_
        refine z_iinc (lv' := [(0, .int x), (1, .int (y + ((x >>> ((nI k) &&& 31)) &&& 1))), (2, .int (nI (k + 1)))]) hz (nI (k + 1)) 2 [1, 2, 0] dX10_bits_18 rfl (nI_1 _) (by decide) rfl ?_
        refine z_goto hz 4 dX10_bits_21 (by decide) ?_
        exact ih_4 (k + 1) (y + ((x >>> ((nI k) &&& 31)) &&& 1)) (by omega) (by rw [hx]; rfl) (by omega)
  exact lp_4 ((16 - 0) + 1) 0 0 (Nat.zero_le _) rfl (Nat.lt_succ_self _)
set_option maxHeartbeats 2000000 in
theorem mM_done {G : zG} (op a b : Int32) : zRd G yX10_done (ws_ yX10_done cX10_done 3 (some .int)) (zRm 0 0 0 0) [.int op, .int a, .int b] [] (fun v9 => v9 = some (.int (doneF op a b))) := by
  refine zRd.of (by decide +kernel) (Nat.le_of_ble_eq_true rfl) ?_
  intro p e s m args below meth c hz hP hr hlk Q hQ
  refine z_lv (lv' := [(0, .int op), (1, .int a), (2, .int b)]) [0, 1, 2] rfl ?_
  refine z_iload_n hz dX10_done_0 0 rfl rfl ?_
  by_cases c1 : op = 20000
  · refine z_tabIn hz 51 52 dX10_done_1 (by rw [c1]; decide) (by rw [c1]; decide) (by rw [c1]; decide) (by decide) ?_
    refine z_iload_n hz dX10_done_52 1 rfl rfl ?_
    refine z_if_ne hz 60 dX10_done_53 (by decide) (fun c2 => ?_) (fun c2 => ?_)
    · refine z_iconst hz 1 dX10_done_60 ki_1 ?_
      refine z_goto hz 65 dX10_done_61 (by decide) ?_
      exact zr_iret hQ hz hr hlk dX10_done_65 (by simp [doneF, zB, c1, c2])
    · refine z_iload_n hz dX10_done_56 2 rfl rfl ?_
      refine z_if_eq hz 64 dX10_done_57 (by decide) (fun c3 => ?_) (fun c3 => ?_)
      · refine z_iconst hz 0 dX10_done_64 ki_0 ?_
        exact zr_iret hQ hz hr hlk dX10_done_65 (by simp [doneF, zB, c1, c2, c3])
      · refine z_iconst hz 1 dX10_done_60 ki_1 ?_
        refine z_goto hz 65 dX10_done_61 (by decide) ?_
        exact zr_iret hQ hz hr hlk dX10_done_65 (by simp [doneF, zB, c1, c2, c3])
  ·
    skip
    by_cases c4 : op = 20001
    · refine z_tabIn hz 65 66 dX10_done_1 (by rw [c4]; decide) (by rw [c4]; decide) (by rw [c4]; decide) (by decide) ?_
      refine z_iload_n hz dX10_done_66 1 rfl rfl ?_
      refine z_if_eq hz 78 dX10_done_67 (by decide) (fun c5 => ?_) (fun c5 => ?_)
      · refine z_iconst hz 0 dX10_done_78 ki_0 ?_
        exact zr_iret hQ hz hr hlk dX10_done_79 (by simp [doneF, zB, c1, c4, c5])
      · refine z_iload_n hz dX10_done_70 2 rfl rfl ?_
        refine z_if_eq hz 78 dX10_done_71 (by decide) (fun c6 => ?_) (fun c6 => ?_)
        · refine z_iconst hz 0 dX10_done_78 ki_0 ?_
          exact zr_iret hQ hz hr hlk dX10_done_79 (by simp [doneF, zB, c1, c4, c5, c6])
        · refine z_iconst hz 1 dX10_done_74 ki_1 ?_
          refine z_goto hz 79 dX10_done_75 (by decide) ?_
          exact zr_iret hQ hz hr hlk dX10_done_79 (by simp [doneF, zB, c1, c4, c5, c6])
    ·
      skip
      by_cases c7 : op = 20002
      · refine z_tabIn hz 79 80 dX10_done_1 (by rw [c7]; decide) (by rw [c7]; decide) (by rw [c7]; decide) (by decide) ?_
        refine z_iload_n hz dX10_done_80 1 rfl rfl ?_
        refine z_iload_n hz dX10_done_81 2 rfl rfl ?_
        refine z_icmp_ge hz 89 dX10_done_82 (by decide) (fun c8 => ?_) (fun c8 => ?_)
        · refine z_iconst hz 0 dX10_done_89 ki_0 ?_
          exact zr_iret hQ hz hr hlk dX10_done_90 (by simp [doneF, zB, c1, c4, c7, Int32.not_lt.mp (Int32.not_lt.mpr c8)])
        · refine z_iconst hz 1 dX10_done_85 ki_1 ?_
          refine z_goto hz 90 dX10_done_86 (by decide) ?_
          exact zr_iret hQ hz hr hlk dX10_done_90 (by simp [doneF, zB, c1, c4, c7, (Int32.not_le.mp c8)])
      ·
        skip
        by_cases c9 : op = 20003
        · refine z_tabIn hz 90 91 dX10_done_1 (by rw [c9]; decide) (by rw [c9]; decide) (by rw [c9]; decide) (by decide) ?_
          refine z_iload_n hz dX10_done_91 1 rfl rfl ?_
          refine z_iload_n hz dX10_done_92 2 rfl rfl ?_
          refine z_icmp_ne hz 100 dX10_done_93 (by decide) (fun c10 => ?_) (fun c10 => ?_)
          · refine z_iconst hz 0 dX10_done_100 ki_0 ?_
            exact zr_iret hQ hz hr hlk dX10_done_101 (by simp [doneF, zB, c1, c4, c7, c9, c10])
          · refine z_iconst hz 1 dX10_done_96 ki_1 ?_
            refine z_goto hz 101 dX10_done_97 (by decide) ?_
            exact zr_iret hQ hz hr hlk dX10_done_101 (by simp [doneF, zB, c1, c4, c7, c9, c10])
        ·
          skip
          by_cases c11 : op = 20004
          · refine z_tabIn hz 101 102 dX10_done_1 (by rw [c11]; decide) (by rw [c11]; decide) (by rw [c11]; decide) (by decide) ?_
            refine z_iload_n hz dX10_done_102 1 rfl rfl ?_
            refine z_iload_n hz dX10_done_103 2 rfl rfl ?_
            refine z_icmp_le hz 111 dX10_done_104 (by decide) (fun c12 => ?_) (fun c12 => ?_)
            · refine z_iconst hz 0 dX10_done_111 ki_0 ?_
              exact zr_iret hQ hz hr hlk dX10_done_112 (by simp [doneF, zB, c1, c4, c7, c9, c11, c12])
            · refine z_iconst hz 1 dX10_done_107 ki_1 ?_
              refine z_goto hz 112 dX10_done_108 (by decide) ?_
              exact zr_iret hQ hz hr hlk dX10_done_112 (by simp [doneF, zB, c1, c4, c7, c9, c11, c12])
          ·
            skip
            by_cases c13 : op = 20005
            · refine z_tabIn hz 112 113 dX10_done_1 (by rw [c13]; decide) (by rw [c13]; decide) (by rw [c13]; decide) (by decide) ?_
              refine z_iload_n hz dX10_done_113 1 rfl rfl ?_
              refine z_iload_n hz dX10_done_114 2 rfl rfl ?_
              refine z_iadd hz dX10_done_115 ?_
              exact zr_iret hQ hz hr hlk dX10_done_116 (by simp [doneF, zB, c1, c4, c7, c9, c11, c13])
            ·
              skip
              by_cases c14 : op = 20006
              · refine z_tabIn hz 116 117 dX10_done_1 (by rw [c14]; decide) (by rw [c14]; decide) (by rw [c14]; decide) (by decide) ?_
                refine z_iload_n hz dX10_done_117 1 rfl rfl ?_
                refine z_iload_n hz dX10_done_118 2 rfl rfl ?_
                refine z_isub hz dX10_done_119 ?_
                exact zr_iret hQ hz hr hlk dX10_done_120 (by simp [doneF, zB, c1, c4, c7, c9, c11, c13, c14])
              ·
                skip
                by_cases c15 : op = 20007
                · refine z_tabIn hz 120 121 dX10_done_1 (by rw [c15]; decide) (by rw [c15]; decide) (by rw [c15]; decide) (by decide) ?_
                  refine z_iload_n hz dX10_done_121 1 rfl rfl ?_
                  refine z_iload_n hz dX10_done_122 2 rfl rfl ?_
                  refine z_imul hz dX10_done_123 ?_
                  exact zr_iret hQ hz hr hlk dX10_done_124 (by simp [doneF, zB, c1, c4, c7, c9, c11, c13, c14, c15])
                ·
                  skip
                  by_cases c16 : op = 20008
                  · refine z_tabIn hz 124 125 dX10_done_1 (by rw [c16]; decide) (by rw [c16]; decide) (by rw [c16]; decide) (by decide) ?_
                    refine z_iload_n hz dX10_done_125 2 rfl rfl ?_
                    refine z_if_ne hz 133 dX10_done_126 (by decide) (fun c17 => ?_) (fun c17 => ?_)
                    · refine z_iload_n hz dX10_done_133 1 rfl rfl ?_
                      refine z_iload_n hz dX10_done_134 2 rfl rfl ?_
                      refine z_idiv hz dX10_done_135 c17 ?_
                      exact zr_iret hQ hz hr hlk dX10_done_136 (by simp [doneF, zB, c1, c4, c7, c9, c11, c13, c14, c15, c16, c17])
                    · refine z_iconst hz 0 dX10_done_129 ki_0 ?_
                      refine z_goto hz 136 dX10_done_130 (by decide) ?_
                      exact zr_iret hQ hz hr hlk dX10_done_136 (by simp [doneF, zB, c1, c4, c7, c9, c11, c13, c14, c15, c16, c17])
                  ·
                    skip
                    refine z_tabOut hz 137 dX10_done_1 (by have n0 := lv_neT (a := 20000) c1 (by decide); have n1 := lv_neT (a := 20001) c4 (by decide); have n2 := lv_neT (a := 20002) c7 (by decide); have n3 := lv_neT (a := 20003) c9 (by decide); have n4 := lv_neT (a := 20004) c11 (by decide); have n5 := lv_neT (a := 20005) c13 (by decide); have n6 := lv_neT (a := 20006) c14 (by decide); have n7 := lv_neT (a := 20007) c15 (by decide); have n8 := lv_neT (a := 20008) c16 (by decide); omega) (by decide) ?_
                    refine z_iload_n hz dX10_done_137 2 rfl rfl ?_
                    refine z_if_ne hz 145 dX10_done_138 (by decide) (fun c18 => ?_) (fun c18 => ?_)
                    · refine z_iload_n hz dX10_done_145 1 rfl rfl ?_
                      refine z_iload_n hz dX10_done_146 2 rfl rfl ?_
                      refine z_irem hz dX10_done_147 c18 ?_
                      exact zr_iret hQ hz hr hlk dX10_done_148 (by simp [doneF, zB, c1, c4, c7, c9, c11, c13, c14, c15, c16, c18])
                    · refine z_iconst hz 0 dX10_done_141 ki_0 ?_
                      refine z_goto hz 148 dX10_done_142 (by decide) ?_
                      exact zr_iret hQ hz hr hlk dX10_done_148 (by simp [doneF, zB, c1, c4, c7, c9, c11, c13, c14, c15, c16, c18])
set_option maxHeartbeats 2000000 in
theorem mM_worked {G : zG} (ad : Nat → Nat) (iv g pl0 : Nat → Int32) (a b cx : Int32) (u : Nat) (hu : u < 4) (nt : Nat) (hnt : g (394 + 52 * u) = nI nt) (h50 : nt ≤ 50) (hok : pileOk (txC g u) nt = some 1) : zMet G yX10_worked (ws_ yX10_worked cX10_worked 8 (some .int)) (zRm 1 0 0 40) [.ref (ad 99), .int (nI (394 + 52 * u + 1)), .int a, .int b, .int cx] [zO (ad 99) 10 (mFs ad iv), zI (G.2.2.1 0) (ad 0) 602 g, zI (G.2.2.1 0) (ad 12) 60 pl0] (fun v9 b9 => v9 = some (.int (workP nt (txC g u) a b cx)) ∧ ∃ f9 : Nat → Int32, b9 = [zO (ad 99) 10 (mFs ad iv), zI (G.2.2.1 0) (ad 0) 602 g, zI (G.2.2.1 0) (ad 12) 60 f9]) := by
  refine zMet.of (by decide +kernel) (Nat.le_of_ble_eq_true rfl) ?_
  intro p e s m args below meth c A hz hA hr hlk hnm9 Q hQ
  refine z_lv (lv' := [(0, .ref (ad 99)), (1, .int (nI (394 + 52 * u + 1))), (2, .int a), (3, .int b), (4, .int cx)]) [0, 1, 2, 3, 4] rfl ?_
  refine z_iconst hz 0 dX10_worked_0 ki_0 ?_
  refine z_istore (lv' := [(0, .ref (ad 99)), (1, .int (nI (394 + 52 * u + 1))), (2, .int a), (3, .int b), (4, .int cx), (5, .int 0)]) hz [1, 2, 3, 4, 5, 0] dX10_worked_1 (by decide) rfl ?_
  refine z_iload_n hz dX10_worked_3 1 rfl rfl ?_
  refine z_istore (lv' := [(0, .ref (ad 99)), (1, .int (nI (394 + 52 * u + 1))), (2, .int a), (3, .int b), (4, .int cx), (5, .int 0), (6, .int (nI (394 + 52 * u + 1)))]) hz [1, 2, 3, 4, 5, 6, 0] dX10_worked_4 (by decide) rfl ?_
  have lp_6 : ∀ (n9 : Nat) (j : Nat) (h : Nat) (pl : Nat → Int32), j ≤ nt → pileOk (txC g u) j = some h → pl = (pileF (txC g u) a b cx pl0 j).1 → nt - j < n9 → zW p G.1 e (zRm 1 0 0 40) s m args below meth c 8 Q 0 0 (zΦ G A s [zO (ad 99) 10 (mFs ad iv), zI (G.2.2.1 0) (ad 0) 602 g, zI (G.2.2.1 0) (ad 12) 60 pl]) 6 [(0, .ref (ad 99)), (1, .int (nI (394 + 52 * u + 1))), (2, .int a), (3, .int b), (4, .int cx), (5, .int (nI h)), (6, .int (nI (394 + 52 * u + 1 + j)))] [] := by
    intro n9
    induction n9 with
    | zero => intro _ _ _ _ _ _ hm; exact absurd hm (Nat.not_lt_zero _)
    | succ n9 ih_6 =>
      intro j h pl hj hh hpl hm_6
      refine z_iload hz dX10_worked_6 6 rfl ?_
      refine z_iload_n hz dX10_worked_8 1 rfl rfl ?_
      refine z_aload_n hz dX10_worked_9 0 rfl rfl ?_
      refine z_get (C := RX10) (T := TX10) (N := 29) hz in_X10 (zAt.mt 0 0 rfl rfl) rfl 0 (by decide) q1929 (fun _ h9 => h9) rfl dX10_worked_10 ?_
      refine z_iload_n hz dX10_worked_13 1 rfl rfl ?_
      refine z_iconst hz 1 dX10_worked_14 ki_1 ?_
      refine z_isubN hz rfl kn_1 (by omega) dX10_worked_15 ?_
      refine z_iald hz (zAt.mt 1 0 rfl rfl) rfl (by omega) (by decide) dX10_worked_16 ?_
      refine z_top hnt ?_
      refine z_iaddN hz rfl rfl dX10_worked_17 ?_
      refine z_icmpN_ge hz rfl rfl (by omega) (by omega) 166 dX10_worked_18 (by decide) (fun c1 => ?_) (fun c1 => ?_)
      · refine z_aload_n hz dX10_worked_166 0 rfl rfl ?_
        refine z_get (C := RX10) (T := TX10) (N := 29) hz in_X10 (zAt.mt 0 0 rfl rfl) rfl 12 (by decide) q1941 (fun _ h9 => h9) rfl dX10_worked_167 ?_
        refine z_iconst hz 0 dX10_worked_170 ki_0 ?_
        refine z_iald hz (zAt.mt 2 0 rfl rfl) kn_0 (by decide) (by decide) dX10_worked_171 ?_
        exact z_iret hQ hz hr hlk dX10_worked_172 ⟨(by
            obtain rfl : j = nt := by omega
            have e9 := pileF_eq (a := a) (b := b) (c := cx) (pl := pl0) (pl2 := fun _ => 0) hok 0 (by omega)
            rw [hpl, e9]; rfl), _, rfl⟩
      · obtain ⟨h2, hh2⟩ := pileOk_pre (cd := txC g u) (k := j + 1) (d := nt - (j + 1)) (h := 1) (by rw [show j + 1 + (nt - (j + 1)) = nt by omega]; exact hok)
        have hle := pileOk_le hh
        refine z_aload_n hz dX10_worked_21 0 rfl rfl ?_
        refine z_get (C := RX10) (T := TX10) (N := 29) hz in_X10 (zAt.mt 0 0 rfl rfl) rfl 0 (by decide) q1929 (fun _ h9 => h9) rfl dX10_worked_22 ?_
        refine z_iload hz dX10_worked_25 6 rfl ?_
        refine z_iald hz (zAt.mt 1 0 rfl rfl) rfl (by omega) (by decide) dX10_worked_27 ?_
        refine z_istore (lv' := [(0, .ref (ad 99)), (1, .int (nI (394 + 52 * u + 1))), (2, .int a), (3, .int b), (4, .int cx), (5, .int (nI h)), (6, .int (nI (394 + 52 * u + 1 + j))), (7, .int (g (394 + 52 * u + 1 + j)))]) hz [1, 2, 3, 4, 5, 6, 7, 0] dX10_worked_28 (by decide) rfl ?_
        refine z_iload hz dX10_worked_30 7 rfl ?_
        refine z_sipush hz 20000 dX10_worked_32 ks_20000 ?_
        refine z_icmp_ge hz 90 dX10_worked_35 (by decide) (fun c2 => ?_) (fun c2 => ?_)
        · refine z_iload hz dX10_worked_90 7 rfl ?_
          refine z_sipush hz 20010 dX10_worked_92 ks_20010 ?_
          refine z_icmp_ne hz 127 dX10_worked_95 (by decide) (fun c3 => ?_) (fun c3 => ?_)
          · have sx := pileOk_s2 hh hh2 (Int32.not_lt.mpr c2) c3
            have sx1 := sx.1
            obtain rfl := sx.2
            refine z_iinc (lv' := [(0, .ref (ad 99)), (1, .int (nI (394 + 52 * u + 1))), (2, .int a), (3, .int b), (4, .int cx), (5, .int (nI (h - 1))), (6, .int (nI (394 + 52 * u + 1 + j))), (7, .int (g (394 + 52 * u + 1 + j)))]) hz (nI (h - 1)) 5 [1, 2, 3, 4, 5, 0, 6, 7] dX10_worked_127 rfl (nI_decp (by omega)) (by decide) rfl ?_
            refine z_aload_n hz dX10_worked_130 0 rfl rfl ?_
            refine z_get (C := RX10) (T := TX10) (N := 29) hz in_X10 (zAt.mt 0 0 rfl rfl) rfl 12 (by decide) q1941 (fun _ h9 => h9) rfl dX10_worked_131 ?_
            refine z_iload hz dX10_worked_134 5 rfl ?_
            refine z_iconst hz 1 dX10_worked_136 ki_1 ?_
            refine z_isubN hz rfl kn_1 (by omega) dX10_worked_137 ?_
            refine z_iload hz dX10_worked_138 7 rfl ?_
            refine z_aload_n hz dX10_worked_140 0 rfl rfl ?_
            refine z_get (C := RX10) (T := TX10) (N := 29) hz in_X10 (zAt.mt 0 0 rfl rfl) rfl 12 (by decide) q1941 (fun _ h9 => h9) rfl dX10_worked_141 ?_
            refine z_iload hz dX10_worked_144 5 rfl ?_
            refine z_iconst hz 1 dX10_worked_146 ki_1 ?_
            refine z_isubN hz rfl kn_1 (by omega) dX10_worked_147 ?_
            refine z_iald hz (zAt.mt 2 0 rfl rfl) rfl (by omega) (by decide) dX10_worked_148 ?_
            refine z_aload_n hz dX10_worked_149 0 rfl rfl ?_
            refine z_get (C := RX10) (T := TX10) (N := 29) hz in_X10 (zAt.mt 0 0 rfl rfl) rfl 12 (by decide) q1941 (fun _ h9 => h9) rfl dX10_worked_150 ?_
            refine z_iload hz dX10_worked_153 5 rfl ?_
            refine z_iald hz (zAt.mt 2 0 rfl rfl) rfl (by omega) (by decide) dX10_worked_155 ?_
            refine z_callRD (st2 := [.int (doneF (g (394 + 52 * u + 1 + j)) (pl ((h - 1) - 1)) (pl (h - 1))), .int (nI ((h - 1) - 1)), .ref (ad 12)]) hz zKp.mt (zk_S hz (rm := (zRm 0 0 0 0)) (As := [.int (g (394 + 52 * u + 1 + j)), .int (pl ((h - 1) - 1)), .int (pl (h - 1))]) (rest := [.int (nI ((h - 1) - 1)), .ref (ad 12)]) 3 q2106 q2107 q95 q2108 (by decide +kernel) ⟨Nat.le_of_ble_eq_true rfl, Nat.le_of_ble_eq_true rfl⟩ ⟨Nat.le_of_ble_eq_true rfl, Nat.le_of_ble_eq_true rfl⟩ rfl rfl (Nat.le_of_ble_eq_true rfl) dX10_worked_156) (mM_done (g (394 + 52 * u + 1 + j)) (pl ((h - 1) - 1)) (pl (h - 1))) (fun _ _ _ => zP0) rfl ?_
            refine z_iast hz 2 0 rfl rfl rfl (by omega) (by decide) dX10_worked_159 ?_
            refine z_bs (bs2 := [zO (ad 99) 10 (mFs ad iv), zI (G.2.2.1 0) (ad 0) 602 g, zI (G.2.2.1 0) (ad 12) 60 (upd pl ((h - 1) - 1) (doneF (g (394 + 52 * u + 1 + j)) (pl ((h - 1) - 1)) (pl (h - 1))))]) rfl ?_
            refine z_iinc (lv' := [(0, .ref (ad 99)), (1, .int (nI (394 + 52 * u + 1))), (2, .int a), (3, .int b), (4, .int cx), (5, .int (nI (h - 1))), (6, .int (nI (394 + 52 * u + 1 + j + 1))), (7, .int (g (394 + 52 * u + 1 + j)))]) hz (nI (394 + 52 * u + 1 + j + 1)) 6 [1, 2, 3, 4, 5, 6, 0, 7] dX10_worked_160 rfl (nI_1 _) (by decide) rfl ?_
            refine z_goto hz 6 dX10_worked_163 (by decide) ?_
            refine z_lv [0, 1, 2, 3, 4, 5, 6] rfl ?_
            exact ih_6 (j + 1) (h - 1) (upd pl ((h - 1) - 1) (doneF (g (394 + 52 * u + 1 + j)) (pl ((h - 1) - 1)) (pl (h - 1)))) (by omega) hh2 (by rw [pileF_s2 hh (Int32.not_lt.mpr c2) c3, ← hpl]; rfl) (by omega)
          · have sx := pileOk_s1 hh hh2 (Int32.not_lt.mpr c2) c3
            have sx1 := sx.1
            have sx2 := sx.2.symm
            subst sx2
            refine z_aload_n hz dX10_worked_98 0 rfl rfl ?_
            refine z_get (C := RX10) (T := TX10) (N := 29) hz in_X10 (zAt.mt 0 0 rfl rfl) rfl 12 (by decide) q1941 (fun _ h9 => h9) rfl dX10_worked_99 ?_
            refine z_iload hz dX10_worked_102 5 rfl ?_
            refine z_iconst hz 1 dX10_worked_104 ki_1 ?_
            refine z_isubN hz rfl kn_1 (by omega) dX10_worked_105 ?_
            refine z_aload_n hz dX10_worked_106 0 rfl rfl ?_
            refine z_get (C := RX10) (T := TX10) (N := 29) hz in_X10 (zAt.mt 0 0 rfl rfl) rfl 12 (by decide) q1941 (fun _ h9 => h9) rfl dX10_worked_107 ?_
            refine z_iload hz dX10_worked_110 5 rfl ?_
            refine z_iconst hz 1 dX10_worked_112 ki_1 ?_
            refine z_isubN hz rfl kn_1 (by omega) dX10_worked_113 ?_
            refine z_iald hz (zAt.mt 2 0 rfl rfl) rfl (by omega) (by decide) dX10_worked_114 ?_
            refine z_if_ne hz 122 dX10_worked_115 (by decide) (fun c4 => ?_) (fun c4 => ?_)
            · refine z_iconst hz 0 dX10_worked_122 ki_0 ?_
              refine z_iast hz 2 0 rfl rfl rfl (by omega) (by decide) dX10_worked_123 ?_
              refine z_bs (bs2 := [zO (ad 99) 10 (mFs ad iv), zI (G.2.2.1 0) (ad 0) 602 g, zI (G.2.2.1 0) (ad 12) 60 (upd pl (h - 1) 0)]) rfl ?_
              refine z_goto hz 160 dX10_worked_124 (by decide) ?_
              refine z_iinc (lv' := [(0, .ref (ad 99)), (1, .int (nI (394 + 52 * u + 1))), (2, .int a), (3, .int b), (4, .int cx), (5, .int (nI h)), (6, .int (nI (394 + 52 * u + 1 + j + 1))), (7, .int (g (394 + 52 * u + 1 + j)))]) hz (nI (394 + 52 * u + 1 + j + 1)) 6 [1, 2, 3, 4, 5, 6, 0, 7] dX10_worked_160 rfl (nI_1 _) (by decide) rfl ?_
              refine z_goto hz 6 dX10_worked_163 (by decide) ?_
              refine z_lv [0, 1, 2, 3, 4, 5, 6] rfl ?_
              exact ih_6 (j + 1) h (upd pl (h - 1) 0) (by omega) hh2 (by rw [pileF_s1 hh (Int32.not_lt.mpr c2) c3, ← hpl]; simp [c1, c4]) (by omega)
            · refine z_iconst hz 1 dX10_worked_118 ki_1 ?_
              refine z_goto hz 123 dX10_worked_119 (by decide) ?_
              refine z_iast hz 2 0 rfl rfl rfl (by omega) (by decide) dX10_worked_123 ?_
              refine z_bs (bs2 := [zO (ad 99) 10 (mFs ad iv), zI (G.2.2.1 0) (ad 0) 602 g, zI (G.2.2.1 0) (ad 12) 60 (upd pl (h - 1) 1)]) rfl ?_
              refine z_goto hz 160 dX10_worked_124 (by decide) ?_
              refine z_iinc (lv' := [(0, .ref (ad 99)), (1, .int (nI (394 + 52 * u + 1))), (2, .int a), (3, .int b), (4, .int cx), (5, .int (nI h)), (6, .int (nI (394 + 52 * u + 1 + j + 1))), (7, .int (g (394 + 52 * u + 1 + j)))]) hz (nI (394 + 52 * u + 1 + j + 1)) 6 [1, 2, 3, 4, 5, 6, 0, 7] dX10_worked_160 rfl (nI_1 _) (by decide) rfl ?_
              refine z_goto hz 6 dX10_worked_163 (by decide) ?_
              refine z_lv [0, 1, 2, 3, 4, 5, 6] rfl ?_
              exact ih_6 (j + 1) h (upd pl (h - 1) 1) (by omega) hh2 (by rw [pileF_s1 hh (Int32.not_lt.mpr c2) c3, ← hpl]; simp [c1, c4]) (by omega)
        · obtain rfl := pileOk_s0 hh hh2 (Int32.not_le.mp c2)
          refine z_aload_n hz dX10_worked_38 0 rfl rfl ?_
          refine z_get (C := RX10) (T := TX10) (N := 29) hz in_X10 (zAt.mt 0 0 rfl rfl) rfl 12 (by decide) q1941 (fun _ h9 => h9) rfl dX10_worked_39 ?_
          refine z_iload hz dX10_worked_42 5 rfl ?_
          refine z_iload hz dX10_worked_44 7 rfl ?_
          refine z_sipush hz 10000 dX10_worked_46 ks_10000 ?_
          refine z_icmp_ge hz 57 dX10_worked_49 (by decide) (fun c5 => ?_) (fun c5 => ?_)
          · refine z_iload hz dX10_worked_57 7 rfl ?_
            refine z_sipush hz 10000 dX10_worked_59 ks_10000 ?_
            refine z_icmp_ne hz 69 dX10_worked_62 (by decide) (fun c6 => ?_) (fun c6 => ?_)
            · refine z_iload hz dX10_worked_69 7 rfl ?_
              refine z_sipush hz 10001 dX10_worked_71 ks_10001 ?_
              refine z_icmp_ne hz 81 dX10_worked_74 (by decide) (fun c7 => ?_) (fun c7 => ?_)
              · refine z_iload hz dX10_worked_81 4 rfl ?_
                refine z_iast hz 2 0 rfl rfl rfl (by omega) (by decide) dX10_worked_83 ?_
                refine z_bs (bs2 := [zO (ad 99) 10 (mFs ad iv), zI (G.2.2.1 0) (ad 0) 602 g, zI (G.2.2.1 0) (ad 12) 60 (upd pl h cx)]) rfl ?_
                refine z_iinc (lv' := [(0, .ref (ad 99)), (1, .int (nI (394 + 52 * u + 1))), (2, .int a), (3, .int b), (4, .int cx), (5, .int (nI (h + 1))), (6, .int (nI (394 + 52 * u + 1 + j))), (7, .int (g (394 + 52 * u + 1 + j)))]) hz (nI (h + 1)) 5 [1, 2, 3, 4, 5, 0, 6, 7] dX10_worked_84 rfl (nI_1 _) (by decide) rfl ?_
                refine z_goto hz 160 dX10_worked_87 (by decide) ?_
                refine z_iinc (lv' := [(0, .ref (ad 99)), (1, .int (nI (394 + 52 * u + 1))), (2, .int a), (3, .int b), (4, .int cx), (5, .int (nI (h + 1))), (6, .int (nI (394 + 52 * u + 1 + j + 1))), (7, .int (g (394 + 52 * u + 1 + j)))]) hz (nI (394 + 52 * u + 1 + j + 1)) 6 [1, 2, 3, 4, 5, 6, 0, 7] dX10_worked_160 rfl (nI_1 _) (by decide) rfl ?_
                refine z_goto hz 6 dX10_worked_163 (by decide) ?_
                refine z_lv [0, 1, 2, 3, 4, 5, 6] rfl ?_
                exact ih_6 (j + 1) (h + 1) (upd pl h cx) (by omega) hh2 (by rw [pileF_s0 hh (Int32.not_le.mp c2), ← hpl]; simp [leafF, c1, (Int32.not_lt.mpr c5), c6, c7]) (by omega)
              · refine z_iload_n hz dX10_worked_77 3 rfl rfl ?_
                refine z_goto hz 83 dX10_worked_78 (by decide) ?_
                refine z_iast hz 2 0 rfl rfl rfl (by omega) (by decide) dX10_worked_83 ?_
                refine z_bs (bs2 := [zO (ad 99) 10 (mFs ad iv), zI (G.2.2.1 0) (ad 0) 602 g, zI (G.2.2.1 0) (ad 12) 60 (upd pl h b)]) rfl ?_
                refine z_iinc (lv' := [(0, .ref (ad 99)), (1, .int (nI (394 + 52 * u + 1))), (2, .int a), (3, .int b), (4, .int cx), (5, .int (nI (h + 1))), (6, .int (nI (394 + 52 * u + 1 + j))), (7, .int (g (394 + 52 * u + 1 + j)))]) hz (nI (h + 1)) 5 [1, 2, 3, 4, 5, 0, 6, 7] dX10_worked_84 rfl (nI_1 _) (by decide) rfl ?_
                refine z_goto hz 160 dX10_worked_87 (by decide) ?_
                refine z_iinc (lv' := [(0, .ref (ad 99)), (1, .int (nI (394 + 52 * u + 1))), (2, .int a), (3, .int b), (4, .int cx), (5, .int (nI (h + 1))), (6, .int (nI (394 + 52 * u + 1 + j + 1))), (7, .int (g (394 + 52 * u + 1 + j)))]) hz (nI (394 + 52 * u + 1 + j + 1)) 6 [1, 2, 3, 4, 5, 6, 0, 7] dX10_worked_160 rfl (nI_1 _) (by decide) rfl ?_
                refine z_goto hz 6 dX10_worked_163 (by decide) ?_
                refine z_lv [0, 1, 2, 3, 4, 5, 6] rfl ?_
                exact ih_6 (j + 1) (h + 1) (upd pl h b) (by omega) hh2 (by rw [pileF_s0 hh (Int32.not_le.mp c2), ← hpl]; simp [leafF, c1, (Int32.not_lt.mpr c5), c6, c7]) (by omega)
            · refine z_iload_n hz dX10_worked_65 2 rfl rfl ?_
              refine z_goto hz 83 dX10_worked_66 (by decide) ?_
              refine z_iast hz 2 0 rfl rfl rfl (by omega) (by decide) dX10_worked_83 ?_
              refine z_bs (bs2 := [zO (ad 99) 10 (mFs ad iv), zI (G.2.2.1 0) (ad 0) 602 g, zI (G.2.2.1 0) (ad 12) 60 (upd pl h a)]) rfl ?_
              refine z_iinc (lv' := [(0, .ref (ad 99)), (1, .int (nI (394 + 52 * u + 1))), (2, .int a), (3, .int b), (4, .int cx), (5, .int (nI (h + 1))), (6, .int (nI (394 + 52 * u + 1 + j))), (7, .int (g (394 + 52 * u + 1 + j)))]) hz (nI (h + 1)) 5 [1, 2, 3, 4, 5, 0, 6, 7] dX10_worked_84 rfl (nI_1 _) (by decide) rfl ?_
              refine z_goto hz 160 dX10_worked_87 (by decide) ?_
              refine z_iinc (lv' := [(0, .ref (ad 99)), (1, .int (nI (394 + 52 * u + 1))), (2, .int a), (3, .int b), (4, .int cx), (5, .int (nI (h + 1))), (6, .int (nI (394 + 52 * u + 1 + j + 1))), (7, .int (g (394 + 52 * u + 1 + j)))]) hz (nI (394 + 52 * u + 1 + j + 1)) 6 [1, 2, 3, 4, 5, 6, 0, 7] dX10_worked_160 rfl (nI_1 _) (by decide) rfl ?_
              refine z_goto hz 6 dX10_worked_163 (by decide) ?_
              refine z_lv [0, 1, 2, 3, 4, 5, 6] rfl ?_
              exact ih_6 (j + 1) (h + 1) (upd pl h a) (by omega) hh2 (by rw [pileF_s0 hh (Int32.not_le.mp c2), ← hpl]; simp [leafF, c1, (Int32.not_lt.mpr c5), c6]) (by omega)
          · refine z_iload hz dX10_worked_52 7 rfl ?_
            refine z_goto hz 83 dX10_worked_54 (by decide) ?_
            refine z_iast hz 2 0 rfl rfl rfl (by omega) (by decide) dX10_worked_83 ?_
            refine z_bs (bs2 := [zO (ad 99) 10 (mFs ad iv), zI (G.2.2.1 0) (ad 0) 602 g, zI (G.2.2.1 0) (ad 12) 60 (upd pl h (g (394 + 52 * u + 1 + j)))]) rfl ?_
            refine z_iinc (lv' := [(0, .ref (ad 99)), (1, .int (nI (394 + 52 * u + 1))), (2, .int a), (3, .int b), (4, .int cx), (5, .int (nI (h + 1))), (6, .int (nI (394 + 52 * u + 1 + j))), (7, .int (g (394 + 52 * u + 1 + j)))]) hz (nI (h + 1)) 5 [1, 2, 3, 4, 5, 0, 6, 7] dX10_worked_84 rfl (nI_1 _) (by decide) rfl ?_
            refine z_goto hz 160 dX10_worked_87 (by decide) ?_
            refine z_iinc (lv' := [(0, .ref (ad 99)), (1, .int (nI (394 + 52 * u + 1))), (2, .int a), (3, .int b), (4, .int cx), (5, .int (nI (h + 1))), (6, .int (nI (394 + 52 * u + 1 + j + 1))), (7, .int (g (394 + 52 * u + 1 + j)))]) hz (nI (394 + 52 * u + 1 + j + 1)) 6 [1, 2, 3, 4, 5, 6, 0, 7] dX10_worked_160 rfl (nI_1 _) (by decide) rfl ?_
            refine z_goto hz 6 dX10_worked_163 (by decide) ?_
            refine z_lv [0, 1, 2, 3, 4, 5, 6] rfl ?_
            exact ih_6 (j + 1) (h + 1) (upd pl h (g (394 + 52 * u + 1 + j))) (by omega) hh2 (by rw [pileF_s0 hh (Int32.not_le.mp c2), ← hpl]; simp [leafF, c1, (Int32.not_le.mp c5)]) (by omega)
  exact lp_6 ((nt - 0) + 1) 0 0 pl0 (Nat.zero_le _) rfl rfl (Nat.lt_succ_self _)
set_option maxHeartbeats 2000000 in
theorem mM_given {G : zG} (ad : Nat → Nat) (iv g pl0 : Nat → Int32) (u : Nat) (hu : u < 4) (a b cx : Int32) (hok : txOk g u) : zMet G yX10_given (ws_ yX10_given cX10_given 8 (some .int)) (zRm 2 0 0 80) [.ref (ad 99), .int (nI u), .int a, .int b, .int cx] [zO (ad 99) 10 (mFs ad iv), zI (G.2.2.1 0) (ad 0) 602 g, zI (G.2.2.1 0) (ad 12) 60 pl0] (fun v9 b9 => v9 = some (.int (givenF g u a b cx)) ∧ ∃ f9 : Nat → Int32, b9 = [zO (ad 99) 10 (mFs ad iv), zI (G.2.2.1 0) (ad 0) 602 g, zI (G.2.2.1 0) (ad 12) 60 f9]) := by
  refine zMet.of (by decide +kernel) (Nat.le_of_ble_eq_true rfl) ?_
  intro p e s m args below meth c A hz hA hr hlk hnm9 Q hQ
  refine z_lv (lv' := [(0, .ref (ad 99)), (1, .int (nI u)), (2, .int a), (3, .int b), (4, .int cx)]) [0, 1, 2, 3, 4] rfl ?_
  obtain ⟨nt, h50, hnt, h3⟩ := hok
  refine z_sipush hz 394 dX10_given_0 ks_394 ?_
  refine z_bipush hz 52 dX10_given_3 kb_52 ?_
  refine z_iload_n hz dX10_given_5 1 rfl rfl ?_
  refine z_imulN hz kn_52 rfl dX10_given_6 ?_
  refine z_iaddN hz kn_394 rfl dX10_given_7 ?_
  refine z_iconst hz 1 dX10_given_8 ki_1 ?_
  refine z_iaddN hz rfl kn_1 dX10_given_9 ?_
  refine z_istore (lv' := [(0, .ref (ad 99)), (1, .int (nI u)), (2, .int a), (3, .int b), (4, .int cx), (5, .int (nI ((394 + (52 * u)) + 1)))]) hz [1, 2, 3, 4, 5, 0] dX10_given_10 (by decide) rfl ?_
  refine z_aload_n hz dX10_given_12 0 rfl rfl ?_
  refine z_get (C := RX10) (T := TX10) (N := 29) hz in_X10 (zAt.mt 0 0 rfl rfl) rfl 0 (by decide) q1929 (fun _ h9 => h9) rfl dX10_given_13 ?_
  refine z_iload hz dX10_given_16 5 rfl ?_
  refine z_iconst hz 1 dX10_given_18 ki_1 ?_
  refine z_isubN hz rfl kn_1 (by omega) dX10_given_19 ?_
  refine z_iald hz (zAt.mt 1 0 rfl rfl) rfl (by omega) (by decide) dX10_given_20 ?_
  refine z_top hnt ?_
  refine z_ifN_le hz rfl (by omega) 28 dX10_given_21 (by decide) (fun c1 => ?_) (fun c1 => ?_)
  · have h0 : ¬ 0 < nt := by omega
    refine z_iconst hz 0 dX10_given_28 ki_0 ?_
    refine z_istore (lv' := [(0, .ref (ad 99)), (1, .int (nI u)), (2, .int a), (3, .int b), (4, .int cx), (5, .int (nI ((394 + (52 * u)) + 1))), (6, .int 0)]) hz [1, 2, 3, 4, 5, 6, 0] dX10_given_29 (by decide) rfl ?_
    refine z_iload hz dX10_given_31 6 rfl ?_
    refine z_if_eqT hz 49 dX10_given_33 (by decide) (by decide) ?_
    refine z_iconst hz 0 dX10_given_49 ki_0 ?_
    refine z_istore (lv' := [(0, .ref (ad 99)), (1, .int (nI u)), (2, .int a), (3, .int b), (4, .int cx), (5, .int (nI ((394 + (52 * u)) + 1))), (6, .int 0), (7, .int 0)]) hz [1, 2, 3, 4, 5, 6, 7, 0] dX10_given_50 (by decide) rfl ?_
    refine z_iload_n hz dX10_given_52 1 rfl rfl ?_
    by_cases c2 : u = 0
    · refine z_tabIn hz 27 80 dX10_given_53 (by rw [c2]; decide) (by rw [c2]; decide) (by rw [c2]; decide) (by decide) ?_
      refine z_iload hz dX10_given_80 6 rfl ?_
      refine z_if_eqT hz 90 dX10_given_82 (by decide) (by decide) ?_
      refine z_iconst hz 1 dX10_given_90 ki_1 ?_
      refine z_iload_n hz dX10_given_91 2 rfl rfl ?_
      refine z_iadd hz dX10_given_92 ?_
      refine z_bipush hz 99 dX10_given_93 kb_99 ?_
      refine z_callRD (st2 := [.int (holdF (1 + a) 99)]) hz zKp.mt (zk_S hz (rm := (zRm 1 0 0 30)) (As := [.int (1 + a), .int 99]) (rest := []) 2 q2109 q2110 q95 q2111 (by decide +kernel) ⟨Nat.le_of_ble_eq_true rfl, Nat.le_of_ble_eq_true rfl⟩ ⟨Nat.le_of_ble_eq_true rfl, Nat.le_of_ble_eq_true rfl⟩ rfl rfl (Nat.le_of_ble_eq_true rfl) dX10_given_95) (mM_hold (1 + a) 99) (fun _ _ _ => zP0) rfl ?_
      exact z_iret hQ hz hr hlk dX10_given_98 ⟨(by
          have e0 : txN g u = nt := by rw [txN, hnt]; exact nI_clamp (by omega)
          rw [givenF, e0]
          first | (simp [givenP, zB, c1, c2, h0]; done) | (simp_all [givenP, zB]; done)), _, rfl⟩
    ·
      skip
      by_cases c3 : u = 1
      · refine z_tabIn hz 46 99 dX10_given_53 (by rw [c3]; decide) (by rw [c3]; decide) (by rw [c3]; decide) (by decide) ?_
        refine z_iload hz dX10_given_99 6 rfl ?_
        refine z_if_eqT hz 109 dX10_given_101 (by decide) (by decide) ?_
        refine z_iload_n hz dX10_given_109 2 rfl rfl ?_
        refine z_iload_n hz dX10_given_110 3 rfl rfl ?_
        refine z_bipush hz 10 dX10_given_111 kb_10 ?_
        refine z_idiv hz dX10_given_113 (by decide) ?_
        refine z_iadd hz dX10_given_114 ?_
        refine z_iload hz dX10_given_115 4 rfl ?_
        refine z_isub hz dX10_given_117 ?_
        refine z_sipush hz 1000 dX10_given_118 ks_1000 ?_
        refine z_callRD (st2 := [.int (holdF ((a + (b / 10)) - cx) 1000)]) hz zKp.mt (zk_S hz (rm := (zRm 1 0 0 30)) (As := [.int ((a + (b / 10)) - cx), .int 1000]) (rest := []) 2 q2109 q2110 q95 q2111 (by decide +kernel) ⟨Nat.le_of_ble_eq_true rfl, Nat.le_of_ble_eq_true rfl⟩ ⟨Nat.le_of_ble_eq_true rfl, Nat.le_of_ble_eq_true rfl⟩ rfl rfl (Nat.le_of_ble_eq_true rfl) dX10_given_121) (mM_hold ((a + (b / 10)) - cx) 1000) (fun _ _ _ => zP0) rfl ?_
        exact z_iret hQ hz hr hlk dX10_given_124 ⟨(by
            have e0 : txN g u = nt := by rw [txN, hnt]; exact nI_clamp (by omega)
            rw [givenF, e0]
            first | (simp [givenP, zB, c1, c2, c3, h0]; done) | (simp_all [givenP, zB]; done)), _, rfl⟩
      ·
        skip
        by_cases c4 : u = 2
        · refine z_tabIn hz 72 125 dX10_given_53 (by rw [c4]; decide) (by rw [c4]; decide) (by rw [c4]; decide) (by decide) ?_
          refine z_iload hz dX10_given_125 6 rfl ?_
          refine z_if_eqT hz 138 dX10_given_127 (by decide) (by decide) ?_
          refine z_iload_n hz dX10_given_138 2 rfl rfl ?_
          refine z_sipush hz 360 dX10_given_139 ks_360 ?_
          refine z_irem hz dX10_given_142 (by decide) ?_
          refine z_bipush hz 40 dX10_given_143 kb_40 ?_
          refine z_icmp_ge hz 152 dX10_given_145 (by decide) (fun c5 => ?_) (fun c5 => ?_)
          · refine z_iconst hz 0 dX10_given_152 ki_0 ?_
            exact z_iret hQ hz hr hlk dX10_given_153 ⟨(by
                have e0 : txN g u = nt := by rw [txN, hnt]; exact nI_clamp (by omega)
                rw [givenF, e0]
                first | (simp [givenP, zB, c1, c2, c3, c4, (Int32.not_lt.mpr c5), h0]; done) | (simp_all [givenP, zB]; done)), _, rfl⟩
          · refine z_iconst hz 1 dX10_given_148 ki_1 ?_
            refine z_goto hz 153 dX10_given_149 (by decide) ?_
            exact z_iret hQ hz hr hlk dX10_given_153 ⟨(by
                have e0 : txN g u = nt := by rw [txN, hnt]; exact nI_clamp (by omega)
                rw [givenF, e0]
                first | (simp [givenP, zB, c1, c2, c3, c4, (Int32.not_le.mp c5), h0]; done) | (simp_all [givenP, zB]; done)), _, rfl⟩
        ·
          skip
          refine z_tabOut hz 154 dX10_given_53 (by rw [nI_toInt (by omega)]; omega) (by decide) ?_
          refine z_iload hz dX10_given_154 6 rfl ?_
          refine z_if_eqT hz 164 dX10_given_156 (by decide) (by decide) ?_
          refine z_iload_n hz dX10_given_164 3 rfl rfl ?_
          refine z_bipush hz 24 dX10_given_165 kb_24 ?_
          refine z_callRD (st2 := [.int (holdF b 24)]) hz zKp.mt (zk_S hz (rm := (zRm 1 0 0 30)) (As := [.int b, .int 24]) (rest := []) 2 q2109 q2110 q95 q2111 (by decide +kernel) ⟨Nat.le_of_ble_eq_true rfl, Nat.le_of_ble_eq_true rfl⟩ ⟨Nat.le_of_ble_eq_true rfl, Nat.le_of_ble_eq_true rfl⟩ rfl rfl (Nat.le_of_ble_eq_true rfl) dX10_given_167) (mM_hold b 24) (fun _ _ _ => zP0) rfl ?_
          exact z_iret hQ hz hr hlk dX10_given_170 ⟨(by
              have e0 : txN g u = nt := by rw [txN, hnt]; exact nI_clamp (by omega)
              rw [givenF, e0]
              first | (simp [givenP, zB, c1, c2, c3, c4, h0]; done) | (simp_all [givenP, zB]; done)), _, rfl⟩
  · have h0 : 0 < nt := by omega
    have hok1 : pileOk (txC g u) nt = some 1 := h3.resolve_left (by omega)
    refine z_iconst hz 1 dX10_given_24 ki_1 ?_
    refine z_goto hz 29 dX10_given_25 (by decide) ?_
    refine z_istore (lv' := [(0, .ref (ad 99)), (1, .int (nI u)), (2, .int a), (3, .int b), (4, .int cx), (5, .int (nI ((394 + (52 * u)) + 1))), (6, .int 1)]) hz [1, 2, 3, 4, 5, 6, 0] dX10_given_29 (by decide) rfl ?_
    refine z_iload hz dX10_given_31 6 rfl ?_
    refine z_if_eqF hz 49 dX10_given_33 (by decide) (by decide) ?_
    refine z_aload_n hz dX10_given_36 0 rfl rfl ?_
    refine z_iload hz dX10_given_37 5 rfl ?_
    refine z_iload_n hz dX10_given_39 2 rfl rfl ?_
    refine z_iload_n hz dX10_given_40 3 rfl rfl ?_
    refine z_iload hz dX10_given_41 4 rfl ?_
    refine z_callE (bs2 := fun f6 => [zO (ad 99) 10 (mFs ad iv), zI (G.2.2.1 0) (ad 0) 602 g, zI (G.2.2.1 0) (ad 12) 60 f6]) (st2 := [.int (workP nt (txC g u) a b cx)]) hz hA (zk_V hz (rm := (zRm 1 0 0 40)) (As := [.int (nI ((394 + (52 * u)) + 1)), .int a, .int b, .int cx]) (rest := []) 4 q2102 q2104 qs42 q95 q2105 (by decide +kernel) ⟨Nat.le_of_ble_eq_true rfl, Nat.le_of_ble_eq_true rfl⟩ ⟨Nat.le_of_ble_eq_true rfl, Nat.le_of_ble_eq_true rfl⟩ (zRecv (q := (RX10, TX10, 29)) hz (zAt.mt 0 0 rfl rfl) rfl) rfl rfl (Nat.le_of_ble_eq_true rfl) dX10_given_43) (mM_worked ad iv g pl0 a b cx u hu nt hnt h50 hok1) [0, 1, 2] rfl (by decide) (fun _ => rfl) rfl (fun f6 => ?_)
    refine z_goto hz 50 dX10_given_46 (by decide) ?_
    refine z_istore (lv' := [(0, .ref (ad 99)), (1, .int (nI u)), (2, .int a), (3, .int b), (4, .int cx), (5, .int (nI ((394 + (52 * u)) + 1))), (6, .int 1), (7, .int (workP nt (txC g u) a b cx))]) hz [1, 2, 3, 4, 5, 6, 7, 0] dX10_given_50 (by decide) rfl ?_
    refine z_iload_n hz dX10_given_52 1 rfl rfl ?_
    by_cases c7 : u = 0
    · refine z_tabIn hz 27 80 dX10_given_53 (by rw [c7]; decide) (by rw [c7]; decide) (by rw [c7]; decide) (by decide) ?_
      refine z_iload hz dX10_given_80 6 rfl ?_
      refine z_if_eqF hz 90 dX10_given_82 (by decide) (by decide) ?_
      refine z_iload hz dX10_given_85 7 rfl ?_
      refine z_goto hz 93 dX10_given_87 (by decide) ?_
      refine z_bipush hz 99 dX10_given_93 kb_99 ?_
      refine z_callRD (st2 := [.int (holdF (workP nt (txC g u) a b cx) 99)]) hz zKp.mt (zk_S hz (rm := (zRm 1 0 0 30)) (As := [.int (workP nt (txC g u) a b cx), .int 99]) (rest := []) 2 q2109 q2110 q95 q2111 (by decide +kernel) ⟨Nat.le_of_ble_eq_true rfl, Nat.le_of_ble_eq_true rfl⟩ ⟨Nat.le_of_ble_eq_true rfl, Nat.le_of_ble_eq_true rfl⟩ rfl rfl (Nat.le_of_ble_eq_true rfl) dX10_given_95) (mM_hold (workP nt (txC g u) a b cx) 99) (fun _ _ _ => zP0) rfl ?_
      exact z_iret hQ hz hr hlk dX10_given_98 ⟨(by
          have e0 : txN g u = nt := by rw [txN, hnt]; exact nI_clamp (by omega)
          rw [givenF, e0]
          first | (simp [givenP, zB, c1, c7, h0]; done) | (simp_all [givenP, zB]; done)), _, rfl⟩
    ·
      skip
      by_cases c8 : u = 1
      · refine z_tabIn hz 46 99 dX10_given_53 (by rw [c8]; decide) (by rw [c8]; decide) (by rw [c8]; decide) (by decide) ?_
        refine z_iload hz dX10_given_99 6 rfl ?_
        refine z_if_eqF hz 109 dX10_given_101 (by decide) (by decide) ?_
        refine z_iload hz dX10_given_104 7 rfl ?_
        refine z_goto hz 118 dX10_given_106 (by decide) ?_
        refine z_sipush hz 1000 dX10_given_118 ks_1000 ?_
        refine z_callRD (st2 := [.int (holdF (workP nt (txC g u) a b cx) 1000)]) hz zKp.mt (zk_S hz (rm := (zRm 1 0 0 30)) (As := [.int (workP nt (txC g u) a b cx), .int 1000]) (rest := []) 2 q2109 q2110 q95 q2111 (by decide +kernel) ⟨Nat.le_of_ble_eq_true rfl, Nat.le_of_ble_eq_true rfl⟩ ⟨Nat.le_of_ble_eq_true rfl, Nat.le_of_ble_eq_true rfl⟩ rfl rfl (Nat.le_of_ble_eq_true rfl) dX10_given_121) (mM_hold (workP nt (txC g u) a b cx) 1000) (fun _ _ _ => zP0) rfl ?_
        exact z_iret hQ hz hr hlk dX10_given_124 ⟨(by
            have e0 : txN g u = nt := by rw [txN, hnt]; exact nI_clamp (by omega)
            rw [givenF, e0]
            first | (simp [givenP, zB, c1, c7, c8, h0]; done) | (simp_all [givenP, zB]; done)), _, rfl⟩
      ·
        skip
        by_cases c9 : u = 2
        · refine z_tabIn hz 72 125 dX10_given_53 (by rw [c9]; decide) (by rw [c9]; decide) (by rw [c9]; decide) (by decide) ?_
          refine z_iload hz dX10_given_125 6 rfl ?_
          refine z_if_eqF hz 138 dX10_given_127 (by decide) (by decide) ?_
          refine z_iload hz dX10_given_130 7 rfl ?_
          refine z_if_eq hz 152 dX10_given_132 (by decide) (fun c10 => ?_) (fun c10 => ?_)
          · refine z_iconst hz 0 dX10_given_152 ki_0 ?_
            exact z_iret hQ hz hr hlk dX10_given_153 ⟨(by
                have e0 : txN g u = nt := by rw [txN, hnt]; exact nI_clamp (by omega)
                rw [givenF, e0]
                first | (simp [givenP, zB, c1, c7, c8, c9, c10, h0]; done) | (simp_all [givenP, zB]; done)), _, rfl⟩
          · refine z_goto hz 148 dX10_given_135 (by decide) ?_
            refine z_iconst hz 1 dX10_given_148 ki_1 ?_
            refine z_goto hz 153 dX10_given_149 (by decide) ?_
            exact z_iret hQ hz hr hlk dX10_given_153 ⟨(by
                have e0 : txN g u = nt := by rw [txN, hnt]; exact nI_clamp (by omega)
                rw [givenF, e0]
                first | (simp [givenP, zB, c1, c7, c8, c9, c10, h0]; done) | (simp_all [givenP, zB]; done)), _, rfl⟩
        ·
          skip
          refine z_tabOut hz 154 dX10_given_53 (by rw [nI_toInt (by omega)]; omega) (by decide) ?_
          refine z_iload hz dX10_given_154 6 rfl ?_
          refine z_if_eqF hz 164 dX10_given_156 (by decide) (by decide) ?_
          refine z_iload hz dX10_given_159 7 rfl ?_
          refine z_goto hz 165 dX10_given_161 (by decide) ?_
          refine z_bipush hz 24 dX10_given_165 kb_24 ?_
          refine z_callRD (st2 := [.int (holdF (workP nt (txC g u) a b cx) 24)]) hz zKp.mt (zk_S hz (rm := (zRm 1 0 0 30)) (As := [.int (workP nt (txC g u) a b cx), .int 24]) (rest := []) 2 q2109 q2110 q95 q2111 (by decide +kernel) ⟨Nat.le_of_ble_eq_true rfl, Nat.le_of_ble_eq_true rfl⟩ ⟨Nat.le_of_ble_eq_true rfl, Nat.le_of_ble_eq_true rfl⟩ rfl rfl (Nat.le_of_ble_eq_true rfl) dX10_given_167) (mM_hold (workP nt (txC g u) a b cx) 24) (fun _ _ _ => zP0) rfl ?_
          exact z_iret hQ hz hr hlk dX10_given_170 ⟨(by
              have e0 : txN g u = nt := by rw [txN, hnt]; exact nI_clamp (by omega)
              rw [givenF, e0]
              first | (simp [givenP, zB, c1, c7, c8, c9, h0]; done) | (simp_all [givenP, zB]; done)), _, rfl⟩
set_option maxHeartbeats 400000 in
theorem mM_even {G : zG} (ad : Nat → Nat) (iv g : Nat → Int32) (a : Nat) (ha : a + 8 ≤ 36) : zMet G yX10_even (ws_ yX10_even cX10_even 4 none) (zRm 0 0 0 0) [.ref (ad 99), .int (nI a)] [zO (ad 99) 10 (mFs ad iv), zI (G.2.2.1 0) (ad 0) 602 g] (fun v9 b9 => v9 = none ∧ b9 = [zO (ad 99) 10 (mFs ad iv), zI (G.2.2.1 0) (ad 0) 602 (evenF g a 7)]) := by
  refine zMet.of (by decide +kernel) (Nat.le_of_ble_eq_true rfl) ?_
  intro p e s m args below meth c A hz hA hr hlk hnm9 Q hQ
  refine z_lv (lv' := [(0, .ref (ad 99)), (1, .int (nI a))]) [0, 1] rfl ?_
  refine z_iconst hz 0 dX10_even_0 ki_0 ?_
  refine z_istore_n (lv' := [(0, .ref (ad 99)), (1, .int (nI a)), (2, .int 0)]) hz [1, 2, 0] dX10_even_1 rfl (by decide) rfl ?_
  have lp_2 : ∀ (n9 : Nat) (d : Nat) (h : Nat → Int32), d ≤ 7 → h = evenF g a d → 7 - d < n9 → zW p G.1 e (zRm 0 0 0 0) s m args below meth c 4 Q 0 0 (zΦ G A s [zO (ad 99) 10 (mFs ad iv), zI (G.2.2.1 0) (ad 0) 602 h]) 2 [(0, .ref (ad 99)), (1, .int (nI a)), (2, .int (nI d))] [] := by
    intro n9
    induction n9 with
    | zero => intro _ _ _ _ hm; exact absurd hm (Nat.not_lt_zero _)
    | succ n9 ih_2 =>
      intro d h hd hh hm_2
      refine z_iload_n hz dX10_even_2 2 rfl rfl ?_
      refine z_bipush hz 7 dX10_even_3 kb_7 ?_
      refine z_icmpN_ge hz rfl kn_7 (by omega) (by decide) 73 dX10_even_5 (by decide) (fun c1 => ?_) (fun c1 => ?_)
      · exact z_vret hQ hz hr hlk dX10_even_73 ⟨rfl, by rw [hh, show d = 7 by omega]⟩
      · refine z_aload_n hz dX10_even_8 0 rfl rfl ?_
        refine z_get (C := RX10) (T := TX10) (N := 29) hz in_X10 (zAt.mt 0 0 rfl rfl) rfl 0 (by decide) q1929 (fun _ h9 => h9) rfl dX10_even_9 ?_
        refine z_bipush hz 13 dX10_even_12 kb_13 ?_
        refine z_iload_n hz dX10_even_14 2 rfl rfl ?_
        refine z_iaddN hz kn_13 rfl dX10_even_15 ?_
        refine z_iald hz (zAt.mt 1 0 rfl rfl) rfl (by omega) (by decide) dX10_even_16 ?_
        refine z_iconst hz 1 dX10_even_17 ki_1 ?_
        refine z_icmp_ne hz 67 dX10_even_18 (by decide) (fun c2 => ?_) (fun c2 => ?_)
        · refine z_iinc (lv' := [(0, .ref (ad 99)), (1, .int (nI a)), (2, .int (nI (d + 1)))]) hz (nI (d + 1)) 2 [1, 2, 0] dX10_even_67 rfl (nI_1 _) (by decide) rfl ?_
          refine z_goto hz 2 dX10_even_70 (by decide) ?_
          exact ih_2 (d + 1) h (by omega) (by simp only [evenF]; rw [← hh, if_neg c2]) (by omega)
        · refine z_aload_n hz dX10_even_21 0 rfl rfl ?_
          refine z_get (C := RX10) (T := TX10) (N := 29) hz in_X10 (zAt.mt 0 0 rfl rfl) rfl 0 (by decide) q1929 (fun _ h9 => h9) rfl dX10_even_22 ?_
          refine z_iload_n hz dX10_even_25 1 rfl rfl ?_
          refine z_iload_n hz dX10_even_26 2 rfl rfl ?_
          refine z_iaddN hz rfl rfl dX10_even_27 ?_
          refine z_iald hz (zAt.mt 1 0 rfl rfl) rfl (by omega) (by decide) dX10_even_28 ?_
          refine z_aload_n hz dX10_even_29 0 rfl rfl ?_
          refine z_get (C := RX10) (T := TX10) (N := 29) hz in_X10 (zAt.mt 0 0 rfl rfl) rfl 0 (by decide) q1929 (fun _ h9 => h9) rfl dX10_even_30 ?_
          refine z_iload_n hz dX10_even_33 1 rfl rfl ?_
          refine z_iload_n hz dX10_even_34 2 rfl rfl ?_
          refine z_iaddN hz rfl rfl dX10_even_35 ?_
          refine z_iconst hz 1 dX10_even_36 ki_1 ?_
          refine z_iaddN hz rfl kn_1 dX10_even_37 ?_
          refine z_iald hz (zAt.mt 1 0 rfl rfl) rfl (by omega) (by decide) dX10_even_38 ?_
          refine z_iadd hz dX10_even_39 ?_
          refine z_istore_n (lv' := [(0, .ref (ad 99)), (1, .int (nI a)), (2, .int (nI d)), (3, .int ((h (a + d)) + (h ((a + d) + 1))))]) hz [1, 2, 3, 0] dX10_even_40 rfl (by decide) rfl ?_
          refine z_aload_n hz dX10_even_41 0 rfl rfl ?_
          refine z_get (C := RX10) (T := TX10) (N := 29) hz in_X10 (zAt.mt 0 0 rfl rfl) rfl 0 (by decide) q1929 (fun _ h9 => h9) rfl dX10_even_42 ?_
          refine z_iload_n hz dX10_even_45 1 rfl rfl ?_
          refine z_iload_n hz dX10_even_46 2 rfl rfl ?_
          refine z_iaddN hz rfl rfl dX10_even_47 ?_
          refine z_iconst hz 1 dX10_even_48 ki_1 ?_
          refine z_iaddN hz rfl kn_1 dX10_even_49 ?_
          refine z_iload_n hz dX10_even_50 3 rfl rfl ?_
          refine z_iconst hz 2 dX10_even_51 ki_2 ?_
          refine z_idiv hz dX10_even_52 (by decide) ?_
          refine z_iast hz 1 0 rfl rfl rfl (by omega) (by decide) dX10_even_53 ?_
          refine z_bs (bs2 := [zO (ad 99) 10 (mFs ad iv), zI (G.2.2.1 0) (ad 0) 602 (upd h ((a + d) + 1) (((h (a + d)) + (h ((a + d) + 1))) / 2))]) rfl ?_
          refine z_aload_n hz dX10_even_54 0 rfl rfl ?_
          refine z_get (C := RX10) (T := TX10) (N := 29) hz in_X10 (zAt.mt 0 0 rfl rfl) rfl 0 (by decide) q1929 (fun _ h9 => h9) rfl dX10_even_55 ?_
          refine z_iload_n hz dX10_even_58 1 rfl rfl ?_
          refine z_iload_n hz dX10_even_59 2 rfl rfl ?_
          refine z_iaddN hz rfl rfl dX10_even_60 ?_
          refine z_iload_n hz dX10_even_61 3 rfl rfl ?_
          refine z_iload_n hz dX10_even_62 3 rfl rfl ?_
          refine z_iconst hz 2 dX10_even_63 ki_2 ?_
          refine z_idiv hz dX10_even_64 (by decide) ?_
          refine z_isub hz dX10_even_65 ?_
          refine z_iast hz 1 0 rfl rfl rfl (by omega) (by decide) dX10_even_66 ?_
          refine z_bs (bs2 := [zO (ad 99) 10 (mFs ad iv), zI (G.2.2.1 0) (ad 0) 602 (upd (upd h ((a + d) + 1) (((h (a + d)) + (h ((a + d) + 1))) / 2)) (a + d) (((h (a + d)) + (h ((a + d) + 1))) - (((h (a + d)) + (h ((a + d) + 1))) / 2)))]) rfl ?_
          refine z_iinc (lv' := [(0, .ref (ad 99)), (1, .int (nI a)), (2, .int (nI (d + 1))), (3, .int ((h (a + d)) + (h ((a + d) + 1))))]) hz (nI (d + 1)) 2 [1, 2, 0, 3] dX10_even_67 rfl (nI_1 _) (by decide) rfl ?_
          refine z_goto hz 2 dX10_even_70 (by decide) ?_
          refine z_lv [0, 1, 2] rfl ?_
          exact ih_2 (d + 1) (upd (upd h ((a + d) + 1) (((h (a + d)) + (h ((a + d) + 1))) / 2)) (a + d) (((h (a + d)) + (h ((a + d) + 1))) - (((h (a + d)) + (h ((a + d) + 1))) / 2))) (by omega) (by simp only [evenF]; rw [← hh, if_pos c2]) (by omega)
  exact lp_2 ((7 - 0) + 1) 0 g (Nat.zero_le _) rfl (Nat.lt_succ_self _)
set_option maxHeartbeats 400000 in
theorem mM_air {G : zG} (ad : Nat → Nat) (iv g pl0 : Nat → Int32) (nm : Nat) (hnm : g 1 = nI nm) (h16 : nm ≤ 16) (htx : txOk g 0) : zMet G yX10_air (ws_ yX10_air cX10_air 3 none) (zRm 3 0 0 110) [.ref (ad 99)] [zO (ad 99) 10 (mFs ad iv), zI (G.2.2.1 0) (ad 0) 602 g, zI (G.2.2.1 0) (ad 12) 60 pl0] (fun v9 b9 => v9 = none ∧ ∃ f9 : Nat → Int32, b9 = [zO (ad 99) 10 (mFs ad iv), zI (G.2.2.1 0) (ad 0) 602 (breatheF g), zI (G.2.2.1 0) (ad 12) 60 f9]) := by
  refine zMet.of (by decide +kernel) (Nat.le_of_ble_eq_true rfl) ?_
  intro p e s m args below meth c A hz hA hr hlk hnm9 Q hQ
  refine z_lv (lv' := [(0, .ref (ad 99))]) [0] rfl ?_
  have tnm : tN (nI nm) = nm := nI_clamp (by omega)
  refine z_iconst hz 0 dX10_air_0 ki_0 ?_
  refine z_istore_n (lv' := [(0, .ref (ad 99)), (1, .int 0)]) hz [1, 0] dX10_air_1 rfl (by decide) rfl ?_
  have lp_2 : ∀ (n9 : Nat) (k : Nat) (h : Nat → Int32) (pl : Nat → Int32), k ≤ nm → h = airF g k → nm - k < n9 → zW p G.1 e (zRm 3 0 0 110) s m args below meth c 3 Q 0 0 (zΦ G A s [zO (ad 99) 10 (mFs ad iv), zI (G.2.2.1 0) (ad 0) 602 h, zI (G.2.2.1 0) (ad 12) 60 pl]) 2 [(0, .ref (ad 99)), (1, .int (nI k))] [] := by
    intro n9
    induction n9 with
    | zero => intro _ _ _ _ _ hm; exact absurd hm (Nat.not_lt_zero _)
    | succ n9 ih_2 =>
      intro k h pl hk hh hm_2
      have hn1 : h 1 = nI nm := by rw [hh, airF_o (by omega)]; exact hnm
      refine z_iload_n hz dX10_air_2 1 rfl rfl ?_
      refine z_aload_n hz dX10_air_3 0 rfl rfl ?_
      refine z_get (C := RX10) (T := TX10) (N := 29) hz in_X10 (zAt.mt 0 0 rfl rfl) rfl 0 (by decide) q1929 (fun _ h9 => h9) rfl dX10_air_4 ?_
      refine z_iconst hz 1 dX10_air_7 ki_1 ?_
      refine z_iald hz (zAt.mt 1 0 rfl rfl) kn_1 (by decide) (by decide) dX10_air_8 ?_
      refine z_top hn1 ?_
      refine z_icmpN_ge hz rfl rfl (by omega) (by omega) 70 dX10_air_9 (by decide) (fun c1 => ?_) (fun c1 => ?_)
      · obtain rfl : nm = k := by omega
        subst hh
        refine z_aload_n hz dX10_air_70 0 rfl rfl ?_
        refine z_bipush hz 28 dX10_air_71 kb_28 ?_
        refine z_callD (bs2 := [zO (ad 99) 10 (mFs ad iv), zI (G.2.2.1 0) (ad 0) 602 (evenF (airF g nm) 28 7), zI (G.2.2.1 0) (ad 12) 60 pl]) (st2 := []) hz hA (zk_V hz (rm := (zRm 0 0 0 0)) (As := [.int 28]) (rest := []) 1 q2114 q2116 qs43 q95 q2117 (by decide +kernel) ⟨Nat.le_of_ble_eq_true rfl, Nat.le_of_ble_eq_true rfl⟩ ⟨Nat.le_of_ble_eq_true rfl, Nat.le_of_ble_eq_true rfl⟩ (zRecv (q := (RX10, TX10, 29)) hz (zAt.mt 0 0 rfl rfl) rfl) rfl rfl (Nat.le_of_ble_eq_true rfl) dX10_air_73) (mM_even ad iv (airF g nm) 28 (by decide)) [0, 1] rfl (by decide) rfl rfl ?_
        exact z_vret hQ hz hr hlk dX10_air_76 ⟨rfl, _, by rw [show breatheF g = evenF (airF g nm) 28 7 by simp only [breatheF]; rw [hnm, tnm]]⟩
      · refine z_aload_n hz dX10_air_12 0 rfl rfl ?_
        refine z_iload_n hz dX10_air_13 1 rfl rfl ?_
        refine z_iconst hz 0 dX10_air_14 ki_0 ?_
        refine z_callRD (st2 := [.int (h (36 + 5 * k))]) hz zKp.mt (zk_V hz (rm := (zRm 0 0 0 0)) (As := [.int (nI k), .int 0]) (rest := []) 2 q2057 q2059 qs38 q95 q2060 (by decide +kernel) ⟨Nat.le_of_ble_eq_true rfl, Nat.le_of_ble_eq_true rfl⟩ ⟨Nat.le_of_ble_eq_true rfl, Nat.le_of_ble_eq_true rfl⟩ (zRecv (q := (RX10, TX10, 29)) hz (zAt.mt 0 0 rfl rfl) rfl) rfl rfl (Nat.le_of_ble_eq_true rfl) dX10_air_15) (mM_man2 ad iv h k 0 (by omega)) (fun H9 L9 h9 => (zPc (zAt.mt 0 0 rfl rfl) h9 (zPc (zAt.mt 1 0 rfl rfl) h9 zP0))) rfl ?_
        refine z_istore_n (lv' := [(0, .ref (ad 99)), (1, .int (nI k)), (2, .int (h (36 + 5 * k)))]) hz [1, 2, 0] dX10_air_18 rfl (by decide) rfl ?_
        refine z_iload_n hz dX10_air_19 2 rfl rfl ?_
        refine z_callRD (st2 := [.int (zB (inR (h (36 + 5 * k)) 0 7))]) hz zKp.mt (zk_S hz (rm := (zRm 1 0 0 30)) (As := [.int (h (36 + 5 * k))]) (rest := []) 1 q2041 q2042 q95 q2043 (by decide +kernel) ⟨Nat.le_of_ble_eq_true rfl, Nat.le_of_ble_eq_true rfl⟩ ⟨Nat.le_of_ble_eq_true rfl, Nat.le_of_ble_eq_true rfl⟩ rfl rfl (Nat.le_of_ble_eq_true rfl) dX10_air_20) (mM_isRoom (h (36 + 5 * k))) (fun _ _ _ => zP0) rfl ?_
        refine z_ifB_eq hz 64 dX10_air_23 (by decide) (fun c2 => ?_) (fun c2 => ?_)
        · refine z_iinc (lv' := [(0, .ref (ad 99)), (1, .int (nI (k + 1))), (2, .int (h (36 + 5 * k)))]) hz (nI (k + 1)) 1 [1, 0, 2] dX10_air_64 rfl (nI_1 _) (by decide) rfl ?_
          refine z_goto hz 2 dX10_air_67 (by decide) ?_
          refine z_lv [0, 1] rfl ?_
          exact ih_2 (k + 1) h pl (by omega) (by simp only [airF]; rw [← hh, if_neg c2]) (by omega)
        · obtain ⟨j, j_lo, j_hi, h_j⟩ := inR_nat 0 7 kn_0 kn_7 (by decide) (by decide) c2
          have t_j : tN (nI j) = j := nI_clamp (by omega)
          rw [h_j]
          refine z_aload_n hz dX10_air_26 0 rfl rfl ?_
          refine z_get (C := RX10) (T := TX10) (N := 29) hz in_X10 (zAt.mt 0 0 rfl rfl) rfl 0 (by decide) q1929 (fun _ h9 => h9) rfl dX10_air_27 ?_
          refine z_bipush hz 28 dX10_air_30 kb_28 ?_
          refine z_iload_n hz dX10_air_32 2 rfl rfl ?_
          refine z_iaddN hz kn_28 rfl dX10_air_33 ?_
          refine z_dup2 hz dX10_air_34 rfl rfl ?_
          refine z_iald hz (zAt.mt 1 0 rfl rfl) rfl (by omega) (by decide) dX10_air_35 ?_
          refine z_aload_n hz dX10_air_36 0 rfl rfl ?_
          refine z_iconst hz 0 dX10_air_37 ki_0 ?_
          refine z_aload_n hz dX10_air_38 0 rfl rfl ?_
          refine z_iload_n hz dX10_air_39 1 rfl rfl ?_
          refine z_iconst hz 1 dX10_air_40 ki_1 ?_
          refine z_callRD (st2 := [.int (h (36 + 5 * k + 1)), .int 0, .ref (ad 99), .int (h (28 + j)), .int (nI (28 + j)), .ref (ad 0)]) hz zKp.mt (zk_V hz (rm := (zRm 0 0 0 0)) (As := [.int (nI k), .int 1]) (rest := [.int 0, .ref (ad 99), .int (h (28 + j)), .int (nI (28 + j)), .ref (ad 0)]) 2 q2057 q2059 qs38 q95 q2060 (by decide +kernel) ⟨Nat.le_of_ble_eq_true rfl, Nat.le_of_ble_eq_true rfl⟩ ⟨Nat.le_of_ble_eq_true rfl, Nat.le_of_ble_eq_true rfl⟩ (zRecv (q := (RX10, TX10, 29)) hz (zAt.mt 0 0 rfl rfl) rfl) rfl rfl (Nat.le_of_ble_eq_true rfl) dX10_air_41) (mM_man2 ad iv h k 1 (by omega)) (fun H9 L9 h9 => (zPc (zAt.mt 0 0 rfl rfl) h9 (zPc (zAt.mt 1 0 rfl rfl) h9 zP0))) rfl ?_
          refine z_aload_n hz dX10_air_44 0 rfl rfl ?_
          refine z_iload_n hz dX10_air_45 1 rfl rfl ?_
          refine z_iconst hz 2 dX10_air_46 ki_2 ?_
          refine z_callRD (st2 := [.int (h (36 + 5 * k + 2)), .int (h (36 + 5 * k + 1)), .int 0, .ref (ad 99), .int (h (28 + j)), .int (nI (28 + j)), .ref (ad 0)]) hz zKp.mt (zk_V hz (rm := (zRm 0 0 0 0)) (As := [.int (nI k), .int 2]) (rest := [.int (h (36 + 5 * k + 1)), .int 0, .ref (ad 99), .int (h (28 + j)), .int (nI (28 + j)), .ref (ad 0)]) 2 q2057 q2059 qs38 q95 q2060 (by decide +kernel) ⟨Nat.le_of_ble_eq_true rfl, Nat.le_of_ble_eq_true rfl⟩ ⟨Nat.le_of_ble_eq_true rfl, Nat.le_of_ble_eq_true rfl⟩ (zRecv (q := (RX10, TX10, 29)) hz (zAt.mt 0 0 rfl rfl) rfl) rfl rfl (Nat.le_of_ble_eq_true rfl) dX10_air_47) (mM_man2 ad iv h k 2 (by omega)) (fun H9 L9 h9 => (zPc (zAt.mt 0 0 rfl rfl) h9 (zPc (zAt.mt 1 0 rfl rfl) h9 zP0))) rfl ?_
          refine z_aload_n hz dX10_air_50 0 rfl rfl ?_
          refine z_get (C := RX10) (T := TX10) (N := 29) hz in_X10 (zAt.mt 0 0 rfl rfl) rfl 0 (by decide) q1929 (fun _ h9 => h9) rfl dX10_air_51 ?_
          refine z_bipush hz 28 dX10_air_54 kb_28 ?_
          refine z_iload_n hz dX10_air_56 2 rfl rfl ?_
          refine z_iaddN hz kn_28 rfl dX10_air_57 ?_
          refine z_iald hz (zAt.mt 1 0 rfl rfl) rfl (by omega) (by decide) dX10_air_58 ?_
          refine z_callE (bs2 := fun f3 => [zO (ad 99) 10 (mFs ad iv), zI (G.2.2.1 0) (ad 0) 602 h, zI (G.2.2.1 0) (ad 12) 60 f3]) (st2 := [.int (givenF h 0 (h (36 + 5 * k + 1)) (h (36 + 5 * k + 2)) (h (28 + j))), .int (h (28 + j)), .int (nI (28 + j)), .ref (ad 0)]) hz hA (zk_V hz (rm := (zRm 2 0 0 80)) (As := [.int 0, .int (h (36 + 5 * k + 1)), .int (h (36 + 5 * k + 2)), .int (h (28 + j))]) (rest := [.int (h (28 + j)), .int (nI (28 + j)), .ref (ad 0)]) 4 q2098 q2100 qs41 q95 q2101 (by decide +kernel) ⟨Nat.le_of_ble_eq_true rfl, Nat.le_of_ble_eq_true rfl⟩ ⟨Nat.le_of_ble_eq_true rfl, Nat.le_of_ble_eq_true rfl⟩ (zRecv (q := (RX10, TX10, 29)) hz (zAt.mt 0 0 rfl rfl) rfl) rfl rfl (Nat.le_of_ble_eq_true rfl) dX10_air_59) (mM_given ad iv h pl 0 (by decide) (h (36 + 5 * k + 1)) (h (36 + 5 * k + 2)) (h (28 + j)) (by rw [hh]; exact txOk_congr (fun j hj => airF_o (by omega) k) htx)) [0, 1, 2] rfl (by decide) (fun _ => rfl) rfl (fun f3 => ?_)
          refine z_iadd hz dX10_air_62 ?_
          refine z_iast hz 1 0 rfl rfl rfl (by omega) (by decide) dX10_air_63 ?_
          refine z_bs (bs2 := [zO (ad 99) 10 (mFs ad iv), zI (G.2.2.1 0) (ad 0) 602 (upd h (28 + j) ((h (28 + j)) + (givenF h 0 (h (36 + 5 * k + 1)) (h (36 + 5 * k + 2)) (h (28 + j))))), zI (G.2.2.1 0) (ad 12) 60 f3]) rfl ?_
          refine z_iinc (lv' := [(0, .ref (ad 99)), (1, .int (nI (k + 1))), (2, .int (nI j))]) hz (nI (k + 1)) 1 [1, 0, 2] dX10_air_64 rfl (nI_1 _) (by decide) rfl ?_
          refine z_goto hz 2 dX10_air_67 (by decide) ?_
          refine z_lv [0, 1] rfl ?_
          exact ih_2 (k + 1) (upd h (28 + j) ((h (28 + j)) + (givenF h 0 (h (36 + 5 * k + 1)) (h (36 + 5 * k + 2)) (h (28 + j))))) f3 (by omega) (by simp only [airF]; rw [← hh, if_pos c2, h_j, t_j]) (by omega)
  exact lp_2 ((nm - 0) + 1) 0 g pl0 (Nat.zero_le _) rfl (Nat.lt_succ_self _)
set_option maxHeartbeats 400000 in
theorem mM_kill {G : zG} (ad : Nat → Nat) (iv g : Nat → Int32) (a : Nat) (ha : a + 8 ≤ 36) (most : Int32) (nm : Nat) (hnm : g 1 = nI nm) (h16 : nm ≤ 16) : zMet G yX10_kill (ws_ yX10_kill cX10_kill 5 none) (zRm 2 0 0 60) [.ref (ad 99), .int (nI a), .int most] [zO (ad 99) 10 (mFs ad iv), zI (G.2.2.1 0) (ad 0) 602 g] (fun v9 b9 => v9 = none ∧ b9 = [zO (ad 99) 10 (mFs ad iv), zI (G.2.2.1 0) (ad 0) 602 (killF g a most nm)]) := by
  refine zMet.of (by decide +kernel) (Nat.le_of_ble_eq_true rfl) ?_
  intro p e s m args below meth c A hz hA hr hlk hnm9 Q hQ
  refine z_lv (lv' := [(0, .ref (ad 99)), (1, .int (nI a)), (2, .int most)]) [0, 1, 2] rfl ?_
  refine z_iconst hz 0 dX10_kill_0 ki_0 ?_
  refine z_istore_n (lv' := [(0, .ref (ad 99)), (1, .int (nI a)), (2, .int most), (3, .int 0)]) hz [1, 2, 3, 0] dX10_kill_1 rfl (by decide) rfl ?_
  have lp_2 : ∀ (n9 : Nat) (k : Nat) (h : Nat → Int32), k ≤ nm → h = killF g a most k → nm - k < n9 → zW p G.1 e (zRm 2 0 0 60) s m args below meth c 5 Q 0 0 (zΦ G A s [zO (ad 99) 10 (mFs ad iv), zI (G.2.2.1 0) (ad 0) 602 h]) 2 [(0, .ref (ad 99)), (1, .int (nI a)), (2, .int most), (3, .int (nI k))] [] := by
    intro n9
    induction n9 with
    | zero => intro _ _ _ _ hm; exact absurd hm (Nat.not_lt_zero _)
    | succ n9 ih_2 =>
      intro k h hk hh hm_2
      have hn1 : h 1 = nI nm := by rw [hh, killF_o k (fun i hi => by omega)]; exact hnm
      refine z_iload_n hz dX10_kill_2 3 rfl rfl ?_
      refine z_aload_n hz dX10_kill_3 0 rfl rfl ?_
      refine z_get (C := RX10) (T := TX10) (N := 29) hz in_X10 (zAt.mt 0 0 rfl rfl) rfl 0 (by decide) q1929 (fun _ h9 => h9) rfl dX10_kill_4 ?_
      refine z_iconst hz 1 dX10_kill_7 ki_1 ?_
      refine z_iald hz (zAt.mt 1 0 rfl rfl) kn_1 (by decide) (by decide) dX10_kill_8 ?_
      refine z_top hn1 ?_
      refine z_icmpN_ge hz rfl rfl (by omega) (by omega) 62 dX10_kill_9 (by decide) (fun c1 => ?_) (fun c1 => ?_)
      · exact z_vret hQ hz hr hlk dX10_kill_62 ⟨rfl, by rw [hh, show k = nm by omega]⟩
      · refine z_aload_n hz dX10_kill_12 0 rfl rfl ?_
        refine z_iload_n hz dX10_kill_13 3 rfl rfl ?_
        refine z_iconst hz 0 dX10_kill_14 ki_0 ?_
        refine z_callRD (st2 := [.int (h (36 + 5 * k))]) hz zKp.mt (zk_V hz (rm := (zRm 0 0 0 0)) (As := [.int (nI k), .int 0]) (rest := []) 2 q2057 q2059 qs38 q95 q2060 (by decide +kernel) ⟨Nat.le_of_ble_eq_true rfl, Nat.le_of_ble_eq_true rfl⟩ ⟨Nat.le_of_ble_eq_true rfl, Nat.le_of_ble_eq_true rfl⟩ (zRecv (q := (RX10, TX10, 29)) hz (zAt.mt 0 0 rfl rfl) rfl) rfl rfl (Nat.le_of_ble_eq_true rfl) dX10_kill_15) (mM_man2 ad iv h k 0 (by omega)) (fun H9 L9 h9 => (zPc (zAt.mt 0 0 rfl rfl) h9 (zPc (zAt.mt 1 0 rfl rfl) h9 zP0))) rfl ?_
        refine z_istore (lv' := [(0, .ref (ad 99)), (1, .int (nI a)), (2, .int most), (3, .int (nI k)), (4, .int (h (36 + 5 * k)))]) hz [1, 2, 3, 4, 0] dX10_kill_18 (by decide) rfl ?_
        refine z_iload hz dX10_kill_20 4 rfl ?_
        refine z_callRD (st2 := [.int (zB (inR (h (36 + 5 * k)) 0 7))]) hz zKp.mt (zk_S hz (rm := (zRm 1 0 0 30)) (As := [.int (h (36 + 5 * k))]) (rest := []) 1 q2041 q2042 q95 q2043 (by decide +kernel) ⟨Nat.le_of_ble_eq_true rfl, Nat.le_of_ble_eq_true rfl⟩ ⟨Nat.le_of_ble_eq_true rfl, Nat.le_of_ble_eq_true rfl⟩ rfl rfl (Nat.le_of_ble_eq_true rfl) dX10_kill_22) (mM_isRoom (h (36 + 5 * k))) (fun _ _ _ => zP0) rfl ?_
        refine z_ifB_eq hz 56 dX10_kill_25 (by decide) (fun c2 => ?_) (fun c2 => ?_)
        · refine z_iinc (lv' := [(0, .ref (ad 99)), (1, .int (nI a)), (2, .int most), (3, .int (nI (k + 1))), (4, .int (h (36 + 5 * k)))]) hz (nI (k + 1)) 3 [1, 2, 3, 0, 4] dX10_kill_56 rfl (nI_1 _) (by decide) rfl ?_
          refine z_goto hz 2 dX10_kill_59 (by decide) ?_
          refine z_lv [0, 1, 2, 3] rfl ?_
          exact ih_2 (k + 1) h (by omega) (by simp only [killF]; rw [← hh, if_neg (fun h9 => c2 h9.1)]) (by omega)
        · obtain ⟨j, j_lo, j_hi, h_j⟩ := inR_nat 0 7 kn_0 kn_7 (by decide) (by decide) c2
          have t_j : tN (nI j) = j := nI_clamp (by omega)
          rw [h_j]
          refine z_aload_n hz dX10_kill_28 0 rfl rfl ?_
          refine z_get (C := RX10) (T := TX10) (N := 29) hz in_X10 (zAt.mt 0 0 rfl rfl) rfl 0 (by decide) q1929 (fun _ h9 => h9) rfl dX10_kill_29 ?_
          refine z_iload_n hz dX10_kill_32 1 rfl rfl ?_
          refine z_iload hz dX10_kill_33 4 rfl ?_
          refine z_iaddN hz rfl rfl dX10_kill_35 ?_
          refine z_iald hz (zAt.mt 1 0 rfl rfl) rfl (by omega) (by decide) dX10_kill_36 ?_
          refine z_iload_n hz dX10_kill_37 2 rfl rfl ?_
          refine z_icmp_lt hz 56 dX10_kill_38 (by decide) (fun c3 => ?_) (fun c3 => ?_)
          · refine z_iinc (lv' := [(0, .ref (ad 99)), (1, .int (nI a)), (2, .int most), (3, .int (nI (k + 1))), (4, .int (nI j))]) hz (nI (k + 1)) 3 [1, 2, 3, 0, 4] dX10_kill_56 rfl (nI_1 _) (by decide) rfl ?_
            refine z_goto hz 2 dX10_kill_59 (by decide) ?_
            refine z_lv [0, 1, 2, 3] rfl ?_
            exact ih_2 (k + 1) h (by omega) (by simp only [killF]; rw [← hh, if_neg (fun h9 => by rw [h_j, t_j] at h9; exact Int32.not_le.mpr c3 h9.2)]) (by omega)
          · refine z_aload_n hz dX10_kill_41 0 rfl rfl ?_
            refine z_get (C := RX10) (T := TX10) (N := 29) hz in_X10 (zAt.mt 0 0 rfl rfl) rfl 0 (by decide) q1929 (fun _ h9 => h9) rfl dX10_kill_42 ?_
            refine z_bipush hz 36 dX10_kill_45 kb_36 ?_
            refine z_iconst hz 5 dX10_kill_47 ki_5 ?_
            refine z_iload_n hz dX10_kill_48 3 rfl rfl ?_
            refine z_imulN hz kn_5 rfl dX10_kill_49 ?_
            refine z_iaddN hz kn_36 rfl dX10_kill_50 ?_
            refine z_iconst hz 0 dX10_kill_51 ki_0 ?_
            refine z_iaddN hz rfl kn_0 dX10_kill_52 ?_
            refine z_bipush hz 10 dX10_kill_53 kb_10 ?_
            refine z_iast hz 1 0 rfl rfl rfl (by omega) (by decide) dX10_kill_55 ?_
            refine z_bs (bs2 := [zO (ad 99) 10 (mFs ad iv), zI (G.2.2.1 0) (ad 0) 602 (upd h (36 + (5 * k)) 10)]) rfl ?_
            refine z_iinc (lv' := [(0, .ref (ad 99)), (1, .int (nI a)), (2, .int most), (3, .int (nI (k + 1))), (4, .int (nI j))]) hz (nI (k + 1)) 3 [1, 2, 3, 0, 4] dX10_kill_56 rfl (nI_1 _) (by decide) rfl ?_
            refine z_goto hz 2 dX10_kill_59 (by decide) ?_
            refine z_lv [0, 1, 2, 3] rfl ?_
            exact ih_2 (k + 1) (upd h (36 + (5 * k)) 10) (by omega) (by simp only [killF]; rw [← hh, if_pos ⟨c2, by rw [h_j, t_j]; exact Int32.not_lt.mp c3⟩]) (by omega)
  exact lp_2 ((nm - 0) + 1) 0 g (Nat.zero_le _) rfl (Nat.lt_succ_self _)
set_option maxHeartbeats 1000000 in
theorem mM_rest {G : zG} (ad : Nat → Nat) (iv g : Nat → Int32) (nm : Nat) (hnm : g 1 = nI nm) (h16 : nm ≤ 16) (nv : Nat) (hnv : g 2 = nI nv) (h12 : nv ≤ 12) (hv : ∀ i, i < nv → ∃ q, q < 8 ∧ g (116 + 3 * i) = nI q) : zMet G yX10_rest (ws_ yX10_rest cX10_rest 2 none) (zRm 3 0 0 90) [.ref (ad 99)] [zO (ad 99) 10 (mFs ad iv), zI (G.2.2.1 0) (ad 0) 602 g] (fun v9 b9 => v9 = none ∧ b9 = [zO (ad 99) 10 (mFs ad iv), zI (G.2.2.1 0) (ad 0) 602 (restF g)]) := by
  refine zMet.of (by decide +kernel) (Nat.le_of_ble_eq_true rfl) ?_
  intro p e s m args below meth c A hz hA hr hlk hnm9 Q hQ
  refine z_lv (lv' := [(0, .ref (ad 99))]) [0] rfl ?_
  have tnm : tN (nI nm) = nm := nI_clamp (by omega)
  have tnv : tN (nI nv) = nv := nI_clamp (by omega)
  have hv1 : ∀ i, i < nv → ∃ q, q < 8 ∧ (killF g 28 (g 10) nm) (116 + 3 * i) = nI q := fun i hi => by rw [killF_o nm (fun k hk => by omega)]; exact hv i hi
  have e2 : (killF g 28 (g 10) nm) 2 = nI nv := by rw [killF_o nm (fun k hk => by omega)]; exact hnv
  have hf2 : ∀ k, k ≤ nv → floodF (killF g 28 (g 10) nm) k 2 = nI nv := fun k hk => by rw [floodF_o k (fun i hi => hv1 i (by omega)) (by omega)]; exact e2
  have e1 : evenF (floodF (killF g 28 (g 10) nm) nv) 20 7 1 = nI nm := by rw [evenF_o 7 (by omega), floodF_o nv hv1 (by omega), killF_o nm (fun k hk => by omega)]; exact hnm
  refine z_aload_n hz dX10_rest_0 0 rfl rfl ?_
  refine z_bipush hz 28 dX10_rest_1 kb_28 ?_
  refine z_aload_n hz dX10_rest_3 0 rfl rfl ?_
  refine z_get (C := RX10) (T := TX10) (N := 29) hz in_X10 (zAt.mt 0 0 rfl rfl) rfl 0 (by decide) q1929 (fun _ h9 => h9) rfl dX10_rest_4 ?_
  refine z_bipush hz 10 dX10_rest_7 kb_10 ?_
  refine z_iald hz (zAt.mt 1 0 rfl rfl) kn_10 (by decide) (by decide) dX10_rest_9 ?_
  refine z_callD (bs2 := [zO (ad 99) 10 (mFs ad iv), zI (G.2.2.1 0) (ad 0) 602 (killF g 28 (g 10) nm)]) (st2 := []) hz hA (zk_V hz (rm := (zRm 2 0 0 60)) (As := [.int 28, .int (g 10)]) (rest := []) 2 q2122 q2124 qs45 q95 q2125 (by decide +kernel) ⟨Nat.le_of_ble_eq_true rfl, Nat.le_of_ble_eq_true rfl⟩ ⟨Nat.le_of_ble_eq_true rfl, Nat.le_of_ble_eq_true rfl⟩ (zRecv (q := (RX10, TX10, 29)) hz (zAt.mt 0 0 rfl rfl) rfl) rfl rfl (Nat.le_of_ble_eq_true rfl) dX10_rest_10) (mM_kill ad iv g 28 (by decide) (g 10) nm hnm h16) [0, 1] rfl (by decide) rfl rfl ?_
  refine z_bipush hz 116 dX10_rest_13 kb_116 ?_
  refine z_istore_n (lv' := [(0, .ref (ad 99)), (1, .int 116)]) hz [1, 0] dX10_rest_15 rfl (by decide) rfl ?_
  have lp_16 : ∀ (n9 : Nat) (k : Nat) (q : Nat) (h : Nat → Int32), k ≤ nv → q = 116 + 3 * k → h = floodF (killF g 28 (g 10) nm) k → nv - k < n9 → zW p G.1 e (zRm 3 0 0 90) s m args below meth c 2 Q 0 0 (zΦ G A s [zO (ad 99) 10 (mFs ad iv), zI (G.2.2.1 0) (ad 0) 602 h]) 16 [(0, .ref (ad 99)), (1, .int (nI q))] [] := by
    intro n9
    induction n9 with
    | zero => intro _ _ _ _ _ _ hm; exact absurd hm (Nat.not_lt_zero _)
    | succ n9 ih_16 =>
      intro k q h hk hq hh hm_16
      have hn2 : h 2 = nI nv := by rw [hh]; exact hf2 k hk
      refine z_iload_n hz dX10_rest_16 1 rfl rfl ?_
      refine z_bipush hz 116 dX10_rest_17 kb_116 ?_
      refine z_iconst hz 3 dX10_rest_19 ki_3 ?_
      refine z_aload_n hz dX10_rest_20 0 rfl rfl ?_
      refine z_get (C := RX10) (T := TX10) (N := 29) hz in_X10 (zAt.mt 0 0 rfl rfl) rfl 0 (by decide) q1929 (fun _ h9 => h9) rfl dX10_rest_21 ?_
      refine z_iconst hz 2 dX10_rest_24 ki_2 ?_
      refine z_iald hz (zAt.mt 1 0 rfl rfl) kn_2 (by decide) (by decide) dX10_rest_25 ?_
      refine z_top hn2 ?_
      refine z_imulN hz kn_3 rfl dX10_rest_26 ?_
      refine z_iaddN hz kn_116 rfl dX10_rest_27 ?_
      refine z_icmpN_ge hz rfl rfl (by omega) (by omega) 103 dX10_rest_28 (by decide) (fun c1 => ?_) (fun c1 => ?_)
      · obtain rfl : nv = k := by omega
        subst hh
        skip
        refine z_aload_n hz dX10_rest_103 0 rfl rfl ?_
        refine z_bipush hz 20 dX10_rest_104 kb_20 ?_
        refine z_callD (bs2 := [zO (ad 99) 10 (mFs ad iv), zI (G.2.2.1 0) (ad 0) 602 (evenF (floodF (killF g 28 (g 10) nm) nv) 20 7)]) (st2 := []) hz hA (zk_V hz (rm := (zRm 0 0 0 0)) (As := [.int 20]) (rest := []) 1 q2114 q2116 qs43 q95 q2117 (by decide +kernel) ⟨Nat.le_of_ble_eq_true rfl, Nat.le_of_ble_eq_true rfl⟩ ⟨Nat.le_of_ble_eq_true rfl, Nat.le_of_ble_eq_true rfl⟩ (zRecv (q := (RX10, TX10, 29)) hz (zAt.mt 0 0 rfl rfl) rfl) rfl rfl (Nat.le_of_ble_eq_true rfl) dX10_rest_106) (mM_even ad iv (floodF (killF g 28 (g 10) nm) nv) 20 (by decide)) [0, 1] rfl (by decide) rfl rfl ?_
        refine z_aload_n hz dX10_rest_109 0 rfl rfl ?_
        refine z_bipush hz 20 dX10_rest_110 kb_20 ?_
        refine z_sipush hz 1000 dX10_rest_112 ks_1000 ?_
        refine z_callD (bs2 := [zO (ad 99) 10 (mFs ad iv), zI (G.2.2.1 0) (ad 0) 602 (killF (evenF (floodF (killF g 28 (g 10) nm) nv) 20 7) 20 1000 nm)]) (st2 := []) hz hA (zk_V hz (rm := (zRm 2 0 0 60)) (As := [.int 20, .int 1000]) (rest := []) 2 q2122 q2124 qs45 q95 q2125 (by decide +kernel) ⟨Nat.le_of_ble_eq_true rfl, Nat.le_of_ble_eq_true rfl⟩ ⟨Nat.le_of_ble_eq_true rfl, Nat.le_of_ble_eq_true rfl⟩ (zRecv (q := (RX10, TX10, 29)) hz (zAt.mt 0 0 rfl rfl) rfl) rfl rfl (Nat.le_of_ble_eq_true rfl) dX10_rest_115) (mM_kill ad iv (evenF (floodF (killF g 28 (g 10) nm) nv) 20 7) 20 (by decide) 1000 nm e1 h16) [0, 1] rfl (by decide) rfl rfl ?_
        refine z_aload_n hz dX10_rest_118 0 rfl rfl ?_
        refine z_get (C := RX10) (T := TX10) (N := 29) hz in_X10 (zAt.mt 0 0 rfl rfl) rfl 0 (by decide) q1929 (fun _ h9 => h9) rfl dX10_rest_119 ?_
        refine z_iconst hz 0 dX10_rest_122 ki_0 ?_
        refine z_dup2 hz dX10_rest_123 rfl rfl ?_
        refine z_iald hz (zAt.mt 1 0 rfl rfl) kn_0 (by decide) (by decide) dX10_rest_124 ?_
        refine z_iconst hz 1 dX10_rest_125 ki_1 ?_
        refine z_iadd hz dX10_rest_126 ?_
        refine z_iast hz 1 0 rfl rfl kn_0 (by decide) (by decide) dX10_rest_127 ?_
        refine z_bs (bs2 := [zO (ad 99) 10 (mFs ad iv), zI (G.2.2.1 0) (ad 0) 602 (upd (killF (evenF (floodF (killF g 28 (g 10) nm) nv) 20 7) 20 1000 nm) 0 (((killF (evenF (floodF (killF g 28 (g 10) nm) nv) 20 7) 20 1000 nm) 0) + 1))]) rfl ?_
        exact z_vret hQ hz hr hlk dX10_rest_128 ⟨rfl, by rw [show restF g = upd (killF (evenF (floodF (killF g 28 (g 10) nm) nv) 20 7) 20 1000 nm) 0 (((killF (evenF (floodF (killF g 28 (g 10) nm) nv) 20 7) 20 1000 nm) 0) + 1) by simp only [restF, hnm, tnm, e2, tnv, e1]]⟩
      · refine z_aload_n hz dX10_rest_31 0 rfl rfl ?_
        refine z_get (C := RX10) (T := TX10) (N := 29) hz in_X10 (zAt.mt 0 0 rfl rfl) rfl 0 (by decide) q1929 (fun _ h9 => h9) rfl dX10_rest_32 ?_
        refine z_iload_n hz dX10_rest_35 1 rfl rfl ?_
        refine z_iconst hz 2 dX10_rest_36 ki_2 ?_
        refine z_iaddN hz rfl kn_2 dX10_rest_37 ?_
        refine z_iald hz (zAt.mt 1 0 rfl rfl) rfl (by omega) (by decide) dX10_rest_38 ?_
        refine z_iconst hz 1 dX10_rest_39 ki_1 ?_
        refine z_icmp_ne hz 97 dX10_rest_40 (by decide) (fun c2 => ?_) (fun c2 => ?_)
        · refine z_iinc (lv' := [(0, .ref (ad 99)), (1, .int (nI (q + 3)))]) hz (nI (q + 3)) 1 [1, 0] dX10_rest_97 rfl (by rw [ki_3, kn_3]; exact nI_add _ _) (by decide) rfl ?_
          refine z_goto hz 16 dX10_rest_100 (by decide) ?_
          exact ih_16 (k + 1) (q + 3) h (by omega) (by omega) (by simp only [floodF]; rw [← hh, ← hq, if_neg c2]) (by omega)
        · obtain ⟨qr, hq8, hqv⟩ := hv1 k (by omega)
          have hvq : h q = nI qr := by rw [hh, hq, floodF_o k (fun i hi => hv1 i (by omega)) (by omega)]; exact hqv
          have t_qr : tN (nI qr) = qr := nI_clamp (by omega)
          refine z_aload_n hz dX10_rest_43 0 rfl rfl ?_
          refine z_get (C := RX10) (T := TX10) (N := 29) hz in_X10 (zAt.mt 0 0 rfl rfl) rfl 0 (by decide) q1929 (fun _ h9 => h9) rfl dX10_rest_44 ?_
          refine z_bipush hz 20 dX10_rest_47 kb_20 ?_
          refine z_aload_n hz dX10_rest_49 0 rfl rfl ?_
          refine z_get (C := RX10) (T := TX10) (N := 29) hz in_X10 (zAt.mt 0 0 rfl rfl) rfl 0 (by decide) q1929 (fun _ h9 => h9) rfl dX10_rest_50 ?_
          refine z_iload_n hz dX10_rest_53 1 rfl rfl ?_
          refine z_iald hz (zAt.mt 1 0 rfl rfl) rfl (by omega) (by decide) dX10_rest_54 ?_
          refine z_top hvq ?_
          refine z_iaddN hz kn_20 rfl dX10_rest_55 ?_
          refine z_sipush hz 1000 dX10_rest_56 ks_1000 ?_
          refine z_aload_n hz dX10_rest_59 0 rfl rfl ?_
          refine z_get (C := RX10) (T := TX10) (N := 29) hz in_X10 (zAt.mt 0 0 rfl rfl) rfl 0 (by decide) q1929 (fun _ h9 => h9) rfl dX10_rest_60 ?_
          refine z_bipush hz 20 dX10_rest_63 kb_20 ?_
          refine z_aload_n hz dX10_rest_65 0 rfl rfl ?_
          refine z_get (C := RX10) (T := TX10) (N := 29) hz in_X10 (zAt.mt 0 0 rfl rfl) rfl 0 (by decide) q1929 (fun _ h9 => h9) rfl dX10_rest_66 ?_
          refine z_iload_n hz dX10_rest_69 1 rfl rfl ?_
          refine z_iald hz (zAt.mt 1 0 rfl rfl) rfl (by omega) (by decide) dX10_rest_70 ?_
          refine z_top hvq ?_
          refine z_iaddN hz kn_20 rfl dX10_rest_71 ?_
          refine z_iald hz (zAt.mt 1 0 rfl rfl) rfl (by omega) (by decide) dX10_rest_72 ?_
          refine z_aload_n hz dX10_rest_73 0 rfl rfl ?_
          refine z_get (C := RX10) (T := TX10) (N := 29) hz in_X10 (zAt.mt 0 0 rfl rfl) rfl 0 (by decide) q1929 (fun _ h9 => h9) rfl dX10_rest_74 ?_
          refine z_iload_n hz dX10_rest_77 1 rfl rfl ?_
          refine z_iconst hz 1 dX10_rest_78 ki_1 ?_
          refine z_iaddN hz rfl kn_1 dX10_rest_79 ?_
          refine z_iald hz (zAt.mt 1 0 rfl rfl) rfl (by omega) (by decide) dX10_rest_80 ?_
          refine z_aload_n hz dX10_rest_81 0 rfl rfl ?_
          refine z_get (C := RX10) (T := TX10) (N := 29) hz in_X10 (zAt.mt 0 0 rfl rfl) rfl 0 (by decide) q1929 (fun _ h9 => h9) rfl dX10_rest_82 ?_
          refine z_bipush hz 9 dX10_rest_85 kb_9 ?_
          refine z_iald hz (zAt.mt 1 0 rfl rfl) kn_9 (by decide) (by decide) dX10_rest_87 ?_
          refine z_imul hz dX10_rest_88 ?_
          refine z_bipush hz 100 dX10_rest_89 kb_100 ?_
          refine z_idiv hz dX10_rest_91 (by decide) ?_
          refine z_iadd hz dX10_rest_92 ?_
          refine z_mmin hz q2112 (Nat.le_of_ble_eq_true rfl) (Nat.le_of_ble_eq_true rfl) ⟨Nat.le_of_ble_eq_true rfl, Nat.le_of_ble_eq_true rfl⟩ dX10_rest_93 ?_
          refine z_iast hz 1 0 rfl rfl rfl (by omega) (by decide) dX10_rest_96 ?_
          refine z_bs (bs2 := [zO (ad 99) 10 (mFs ad iv), zI (G.2.2.1 0) (ad 0) 602 (upd h (20 + qr) (minI 1000 ((h (20 + qr)) + (((h (q + 1)) * (h 9)) / 100))))]) rfl ?_
          refine z_iinc (lv' := [(0, .ref (ad 99)), (1, .int (nI (q + 3)))]) hz (nI (q + 3)) 1 [1, 0] dX10_rest_97 rfl (by rw [ki_3, kn_3]; exact nI_add _ _) (by decide) rfl ?_
          refine z_goto hz 16 dX10_rest_100 (by decide) ?_
          exact ih_16 (k + 1) (q + 3) (upd h (20 + qr) (minI 1000 ((h (20 + qr)) + (((h (q + 1)) * (h 9)) / 100)))) (by omega) (by omega) (by simp only [floodF]; rw [← hh, ← hq, if_pos c2, hvq, t_qr]) (by omega)
  exact lp_16 ((nv - 0) + 1) 0 116 (killF g 28 (g 10) nm) (Nat.zero_le _) rfl rfl (Nat.lt_succ_self _)
