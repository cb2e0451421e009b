set_option maxRecDepth 100000
theorem upd_allg {F h : Nat → Int32} {k : Nat} (hh : ∀ j, j < k → h j = F j) : ∀ j, j < k + 1 → upd h k (F k) j = F j := upd_all hh
set_option maxHeartbeats 400000 in
theorem mM_isSheet {G : zG} (v : Int32) : zRd G yX10_isSheet (ws_ yX10_isSheet cX10_isSheet 1 (some .boolean)) (zRm 1 0 0 30) [.int v] [] (fun v9 => v9 = some (.int (zB (inR v 0 3)))) := by
  refine zRd.of (by decide +kernel) (Nat.le_of_ble_eq_true rfl) ?_
  intro p e s m args below meth c hz hP hr hlk Q hQ
  refine z_lv (lv' := [(0, .int v)]) [0] rfl ?_
  refine z_iload_n hz dX10_isSheet_0 0 rfl rfl ?_
  refine z_iconst hz 0 dX10_isSheet_1 ki_0 ?_
  refine z_iconst hz 3 dX10_isSheet_2 ki_3 ?_
  refine z_callRD (st2 := [.int (zB (inR v 0 3))]) hz zKp.rd (zk_S hz (rm := (zRm 0 0 0 0)) (As := [.int v, .int 0, .int 3]) (rest := []) 3 q2023 q2024 q95 q2025 (by decide +kernel) ⟨Nat.le_of_ble_eq_true rfl, Nat.le_of_ble_eq_true rfl⟩ ⟨Nat.le_of_ble_eq_true rfl, Nat.le_of_ble_eq_true rfl⟩ rfl rfl (Nat.le_of_ble_eq_true rfl) dX10_isSheet_3) (mM_within v 0 3) (fun _ _ _ => zP0) rfl ?_
  exact zr_zret hQ hz hr hlk zB_nar dX10_isSheet_6 rfl
set_option maxHeartbeats 1000000 in
theorem mM_sheet {G : zG} (ad : Nat → Nat) (iv g er wd sz nb : Nat → Int32) (sheet bits nn : Int32) : zMet G yX10_sheet (ws_ yX10_sheet cX10_sheet 5 (some .int)) (zRm 2 0 0 60) [.ref (ad 99), .int sheet, .int bits, .int nn] [zO (ad 99) 10 (mFs ad iv), zI (G.2.2.1 0) (ad 0) 602 g, zI (G.2.2.1 0) (ad 4) 6 er, zI (G.2.2.1 0) (ad 25) 4 wd, zI (G.2.2.1 0) (ad 26) 4 sz, zI (G.2.2.1 0) (ad 27) 160 nb] (fun v9 b9 => v9 = some (.int (rT (sSheet wd sz nb sheet bits nn))) ∧ b9 = [zO (ad 99) 10 (mFs ad iv), zI (G.2.2.1 0) (ad 0) 602 g, zI (G.2.2.1 0) (ad 4) 6 (eT er (sSheet wd sz nb sheet bits nn)), zI (G.2.2.1 0) (ad 25) 4 ((sSheet wd sz nb sheet bits nn).2.2.1), zI (G.2.2.1 0) (ad 26) 4 ((sSheet wd sz nb sheet bits nn).2.2.2.1), zI (G.2.2.1 0) (ad 27) 160 ((sSheet wd sz nb sheet bits nn).2.2.2.2)]) := by
  refine zMet.of (by decide +kernel) (Nat.le_of_ble_eq_true rfl) ?_
  intro p e s m args below meth c A hz hA hr hlk hnm9 Q hQ
  refine z_lv (lv' := [(0, .ref (ad 99)), (1, .int sheet), (2, .int bits), (3, .int nn)]) [0, 1, 2, 3] rfl ?_
  refine z_iload_n hz dX10_sheet_0 1 rfl rfl ?_
  refine z_callRD (st2 := [.int (zB (inR sheet 0 3))]) hz zKp.mt (zk_S hz (rm := (zRm 1 0 0 30)) (As := [.int sheet]) (rest := []) 1 q2356 q2357 q95 q2358 (by decide +kernel) ⟨Nat.le_of_ble_eq_true rfl, Nat.le_of_ble_eq_true rfl⟩ ⟨Nat.le_of_ble_eq_true rfl, Nat.le_of_ble_eq_true rfl⟩ rfl rfl (Nat.le_of_ble_eq_true rfl) dX10_sheet_1) (mM_isSheet sheet) (fun _ _ _ => zP0) rfl ?_
  refine z_ifB_eq hz 29 dX10_sheet_4 (by decide) (fun c1 => ?_) (fun c1 => ?_)
  · refine z_aload_n hz dX10_sheet_29 0 rfl rfl ?_
    refine z_ldc hz q2031 dX10_sheet_30 ?_
    refine z_callD (bs2 := [zO (ad 99) 10 (mFs ad iv), zI (G.2.2.1 0) (ad 0) 602 g, zI (G.2.2.1 0) (ad 4) 6 (upd er 1 (er 1 + 1)), zI (G.2.2.1 0) (ad 25) 4 wd, zI (G.2.2.1 0) (ad 26) 4 sz, zI (G.2.2.1 0) (ad 27) 160 nb]) (st2 := [.int (-1000001)]) hz hA (zk_V hz (rm := (zRm 0 0 0 0)) (As := [.int (-1000001)]) (rest := []) 1 q2032 q2034 qs35 q95 q2035 (by decide +kernel) ⟨Nat.le_of_ble_eq_true rfl, Nat.le_of_ble_eq_true rfl⟩ ⟨Nat.le_of_ble_eq_true rfl, Nat.le_of_ble_eq_true rfl⟩ (zRecv (q := (RX10, TX10, 29)) hz (zAt.mt 0 0 rfl rfl) rfl) rfl rfl (Nat.le_of_ble_eq_true rfl) dX10_sheet_32) (mM_finding ad iv er (-1000001) 1 (by decide) (by decide)) [0, 2] rfl (by decide) rfl rfl ?_
    exact z_iret hQ hz hr hlk dX10_sheet_35 (by
      have e9 : sSheet wd sz nb sheet bits nn = (1, 0, wd, sz, nb) := by simp [sSheet, inR, nI_clamp, c1]
      rw [e9]; exact ⟨congrArg (fun z => some (Value.int z)) rE1, rfl⟩)
  · obtain ⟨j, j_lo, j_hi, rfl⟩ := inR_nat 0 3 kn_0 kn_3 (by decide) (by decide) c1
    have t_j : tN (nI j) = j := nI_clamp (by omega)
    refine z_iload_n hz dX10_sheet_7 2 rfl rfl ?_
    refine z_if_eq hz 36 dX10_sheet_8 (by decide) (fun c2 => ?_) (fun c2 => ?_)
    · refine z_iload_n hz dX10_sheet_36 2 rfl rfl ?_
      refine z_if_eqT hz 51 dX10_sheet_37 (by decide) c2 ?_
      refine z_iload_n hz dX10_sheet_51 2 rfl rfl ?_
      refine z_if_eqT hz 68 dX10_sheet_52 (by decide) c2 ?_
      refine z_aload_n hz dX10_sheet_68 0 rfl rfl ?_
      refine z_get (C := RX10) (T := TX10) (N := 29) hz in_X10 (zAt.mt 0 0 rfl rfl) rfl 25 (by decide) q1954 (fun _ h9 => h9) rfl dX10_sheet_69 ?_
      refine z_iload_n hz dX10_sheet_72 1 rfl rfl ?_
      refine z_iload_n hz dX10_sheet_73 2 rfl rfl ?_
      refine z_iast hz 3 0 rfl rfl rfl (by omega) (by decide) dX10_sheet_74 ?_
      refine z_bs (bs2 := [zO (ad 99) 10 (mFs ad iv), zI (G.2.2.1 0) (ad 0) 602 g, zI (G.2.2.1 0) (ad 4) 6 er, zI (G.2.2.1 0) (ad 25) 4 (upd wd j bits), zI (G.2.2.1 0) (ad 26) 4 sz, zI (G.2.2.1 0) (ad 27) 160 nb]) rfl ?_
      refine z_aload_n hz dX10_sheet_75 0 rfl rfl ?_
      refine z_get (C := RX10) (T := TX10) (N := 29) hz in_X10 (zAt.mt 0 0 rfl rfl) rfl 26 (by decide) q1955 (fun _ h9 => h9) rfl dX10_sheet_76 ?_
      refine z_iload_n hz dX10_sheet_79 1 rfl rfl ?_
      refine z_iload_n hz dX10_sheet_80 2 rfl rfl ?_
      refine z_if_neF hz 88 dX10_sheet_81 (by decide) c2 ?_
      refine z_iconst hz 0 dX10_sheet_84 ki_0 ?_
      refine z_goto hz 89 dX10_sheet_85 (by decide) ?_
      refine z_iast hz 4 0 rfl rfl rfl (by omega) (by decide) dX10_sheet_89 ?_
      refine z_bs (bs2 := [zO (ad 99) 10 (mFs ad iv), zI (G.2.2.1 0) (ad 0) 602 g, zI (G.2.2.1 0) (ad 4) 6 er, zI (G.2.2.1 0) (ad 25) 4 (upd wd j bits), zI (G.2.2.1 0) (ad 26) 4 (upd sz j 0), zI (G.2.2.1 0) (ad 27) 160 nb]) rfl ?_
      refine z_iconst hz 0 dX10_sheet_90 ki_0 ?_
      refine z_istore (lv' := [(0, .ref (ad 99)), (1, .int (nI j)), (2, .int bits), (3, .int nn), (4, .int 0)]) hz [1, 2, 3, 4, 0] dX10_sheet_91 (by decide) rfl ?_
      have lp_93 : ∀ (n9 : Nat) (k : Nat) (nb2 : Nat → Int32), k ≤ 40 → nb2 = zeF nb j k → 40 - k < n9 → zW p G.1 e (zRm 2 0 0 60) s m args below meth c 5 Q 0 0 (zΦ G A s [zO (ad 99) 10 (mFs ad iv), zI (G.2.2.1 0) (ad 0) 602 g, zI (G.2.2.1 0) (ad 4) 6 er, zI (G.2.2.1 0) (ad 25) 4 (upd wd j bits), zI (G.2.2.1 0) (ad 26) 4 (upd sz j 0), zI (G.2.2.1 0) (ad 27) 160 nb2]) 93 [(0, .ref (ad 99)), (1, .int (nI j)), (2, .int bits), (3, .int nn), (4, .int (nI k))] [] := by
        intro n9
        induction n9 with
        | zero => intro _ _ _ _ hm; exact absurd hm (Nat.not_lt_zero _)
        | succ n9 ih_93 =>
          intro k nb2 hk hn hm_93
          refine z_iload hz dX10_sheet_93 4 rfl ?_
          refine z_bipush hz 40 dX10_sheet_95 kb_40 ?_
          refine z_icmpN_ge hz rfl kn_40 (by omega) (by decide) 119 dX10_sheet_97 (by decide) (fun c3 => ?_) (fun c3 => ?_)
          · refine z_iconst hz 1 dX10_sheet_119 ki_1 ?_
            exact z_iret hQ hz hr hlk dX10_sheet_120 (by
              have e9 : sSheet wd sz nb (nI j) bits nn = (0, 1, upd wd j bits, upd sz j 0, nb2) := by rw [show nb2 = zeF nb j 40 from by rw [hn, show k = 40 by omega]]; simp [sSheet, inR, c1, c2, c3, t_j]
              rw [e9]; exact ⟨congrArg (fun z => some (Value.int z)) rOf_0.symm, rfl⟩)
          · refine z_aload_n hz dX10_sheet_100 0 rfl rfl ?_
            refine z_get (C := RX10) (T := TX10) (N := 29) hz in_X10 (zAt.mt 0 0 rfl rfl) rfl 27 (by decide) q1956 (fun _ h9 => h9) rfl dX10_sheet_101 ?_
            refine z_bipush hz 40 dX10_sheet_104 kb_40 ?_
            refine z_iload_n hz dX10_sheet_106 1 rfl rfl ?_
            refine z_imulN hz kn_40 rfl dX10_sheet_107 ?_
            refine z_iload hz dX10_sheet_108 4 rfl ?_
            refine z_iaddN hz rfl rfl dX10_sheet_110 ?_
            refine z_iconst hz 0 dX10_sheet_111 ki_0 ?_
            refine z_iast hz 5 0 rfl rfl rfl (by omega) (by decide) dX10_sheet_112 ?_
            refine z_bs (bs2 := [zO (ad 99) 10 (mFs ad iv), zI (G.2.2.1 0) (ad 0) 602 g, zI (G.2.2.1 0) (ad 4) 6 er, zI (G.2.2.1 0) (ad 25) 4 (upd wd j bits), zI (G.2.2.1 0) (ad 26) 4 (upd sz j 0), zI (G.2.2.1 0) (ad 27) 160 (upd nb2 ((40 * j) + k) 0)]) rfl ?_
            refine z_iinc (lv' := [(0, .ref (ad 99)), (1, .int (nI j)), (2, .int bits), (3, .int nn), (4, .int (nI (k + 1)))]) hz (nI (k + 1)) 4 [1, 2, 3, 4, 0] dX10_sheet_113 rfl (nI_1 _) (by decide) rfl ?_
            refine z_goto hz 93 dX10_sheet_116 (by decide) ?_
            exact ih_93 (k + 1) (upd nb2 ((40 * j) + k) 0) (by omega) (by simp only [zeF]; rw [← hn]) (by omega)
      exact lp_93 ((40 - 0) + 1) 0 nb (Nat.zero_le _) rfl (Nat.lt_succ_self _)
    · refine z_iload_n hz dX10_sheet_11 2 rfl rfl ?_
      refine z_bipush hz 8 dX10_sheet_12 kb_8 ?_
      refine z_icmp_eq hz 36 dX10_sheet_14 (by decide) (fun c4 => ?_) (fun c4 => ?_)
      · refine z_iload_n hz dX10_sheet_36 2 rfl rfl ?_
        refine z_if_eqF hz 51 dX10_sheet_37 (by decide) c2 ?_
        refine z_iload_n hz dX10_sheet_40 3 rfl rfl ?_
        refine z_if_ge hz 51 dX10_sheet_41 (by decide) (fun c5 => ?_) (fun c5 => ?_)
        · refine z_iload_n hz dX10_sheet_51 2 rfl rfl ?_
          refine z_if_eqF hz 68 dX10_sheet_52 (by decide) c2 ?_
          refine z_iload_n hz dX10_sheet_55 3 rfl rfl ?_
          refine z_bipush hz 40 dX10_sheet_56 kb_40 ?_
          refine z_icmp_le hz 68 dX10_sheet_58 (by decide) (fun c6 => ?_) (fun c6 => ?_)
          · refine z_aload_n hz dX10_sheet_68 0 rfl rfl ?_
            refine z_get (C := RX10) (T := TX10) (N := 29) hz in_X10 (zAt.mt 0 0 rfl rfl) rfl 25 (by decide) q1954 (fun _ h9 => h9) rfl dX10_sheet_69 ?_
            refine z_iload_n hz dX10_sheet_72 1 rfl rfl ?_
            refine z_iload_n hz dX10_sheet_73 2 rfl rfl ?_
            refine z_iast hz 3 0 rfl rfl rfl (by omega) (by decide) dX10_sheet_74 ?_
            refine z_bs (bs2 := [zO (ad 99) 10 (mFs ad iv), zI (G.2.2.1 0) (ad 0) 602 g, zI (G.2.2.1 0) (ad 4) 6 er, zI (G.2.2.1 0) (ad 25) 4 (upd wd j bits), zI (G.2.2.1 0) (ad 26) 4 sz, zI (G.2.2.1 0) (ad 27) 160 nb]) rfl ?_
            refine z_aload_n hz dX10_sheet_75 0 rfl rfl ?_
            refine z_get (C := RX10) (T := TX10) (N := 29) hz in_X10 (zAt.mt 0 0 rfl rfl) rfl 26 (by decide) q1955 (fun _ h9 => h9) rfl dX10_sheet_76 ?_
            refine z_iload_n hz dX10_sheet_79 1 rfl rfl ?_
            refine z_iload_n hz dX10_sheet_80 2 rfl rfl ?_
            refine z_if_neT hz 88 dX10_sheet_81 (by decide) c2 ?_
            refine z_iload_n hz dX10_sheet_88 3 rfl rfl ?_
            refine z_iast hz 4 0 rfl rfl rfl (by omega) (by decide) dX10_sheet_89 ?_
            refine z_bs (bs2 := [zO (ad 99) 10 (mFs ad iv), zI (G.2.2.1 0) (ad 0) 602 g, zI (G.2.2.1 0) (ad 4) 6 er, zI (G.2.2.1 0) (ad 25) 4 (upd wd j bits), zI (G.2.2.1 0) (ad 26) 4 (upd sz j nn), zI (G.2.2.1 0) (ad 27) 160 nb]) rfl ?_
            refine z_iconst hz 0 dX10_sheet_90 ki_0 ?_
            refine z_istore (lv' := [(0, .ref (ad 99)), (1, .int (nI j)), (2, .int bits), (3, .int nn), (4, .int 0)]) hz [1, 2, 3, 4, 0] dX10_sheet_91 (by decide) rfl ?_
            have lp_93 : ∀ (n9 : Nat) (k : Nat) (nb2 : Nat → Int32), k ≤ 40 → nb2 = zeF nb j k → 40 - k < n9 → zW p G.1 e (zRm 2 0 0 60) s m args below meth c 5 Q 0 0 (zΦ G A s [zO (ad 99) 10 (mFs ad iv), zI (G.2.2.1 0) (ad 0) 602 g, zI (G.2.2.1 0) (ad 4) 6 er, zI (G.2.2.1 0) (ad 25) 4 (upd wd j bits), zI (G.2.2.1 0) (ad 26) 4 (upd sz j nn), zI (G.2.2.1 0) (ad 27) 160 nb2]) 93 [(0, .ref (ad 99)), (1, .int (nI j)), (2, .int bits), (3, .int nn), (4, .int (nI k))] [] := by
              intro n9
              induction n9 with
              | zero => intro _ _ _ _ hm; exact absurd hm (Nat.not_lt_zero _)
              | succ n9 ih_93 =>
                intro k nb2 hk hn hm_93
                refine z_iload hz dX10_sheet_93 4 rfl ?_
                refine z_bipush hz 40 dX10_sheet_95 kb_40 ?_
                refine z_icmpN_ge hz rfl kn_40 (by omega) (by decide) 119 dX10_sheet_97 (by decide) (fun c7 => ?_) (fun c7 => ?_)
                · refine z_iconst hz 1 dX10_sheet_119 ki_1 ?_
                  exact z_iret hQ hz hr hlk dX10_sheet_120 (by
                    have e9 : sSheet wd sz nb (nI j) bits nn = (0, 1, upd wd j bits, upd sz j nn, nb2) := by rw [show nb2 = zeF nb j 40 from by rw [hn, show k = 40 by omega]]; simp [sSheet, inR, c1, c2, c4, (Int32.not_lt.mpr c5), c6, c7, t_j, Int32.not_lt.mpr c6]
                    rw [e9]; exact ⟨congrArg (fun z => some (Value.int z)) rOf_0.symm, rfl⟩)
                · refine z_aload_n hz dX10_sheet_100 0 rfl rfl ?_
                  refine z_get (C := RX10) (T := TX10) (N := 29) hz in_X10 (zAt.mt 0 0 rfl rfl) rfl 27 (by decide) q1956 (fun _ h9 => h9) rfl dX10_sheet_101 ?_
                  refine z_bipush hz 40 dX10_sheet_104 kb_40 ?_
                  refine z_iload_n hz dX10_sheet_106 1 rfl rfl ?_
                  refine z_imulN hz kn_40 rfl dX10_sheet_107 ?_
                  refine z_iload hz dX10_sheet_108 4 rfl ?_
                  refine z_iaddN hz rfl rfl dX10_sheet_110 ?_
                  refine z_iconst hz 0 dX10_sheet_111 ki_0 ?_
                  refine z_iast hz 5 0 rfl rfl rfl (by omega) (by decide) dX10_sheet_112 ?_
                  refine z_bs (bs2 := [zO (ad 99) 10 (mFs ad iv), zI (G.2.2.1 0) (ad 0) 602 g, zI (G.2.2.1 0) (ad 4) 6 er, zI (G.2.2.1 0) (ad 25) 4 (upd wd j bits), zI (G.2.2.1 0) (ad 26) 4 (upd sz j nn), zI (G.2.2.1 0) (ad 27) 160 (upd nb2 ((40 * j) + k) 0)]) rfl ?_
                  refine z_iinc (lv' := [(0, .ref (ad 99)), (1, .int (nI j)), (2, .int bits), (3, .int nn), (4, .int (nI (k + 1)))]) hz (nI (k + 1)) 4 [1, 2, 3, 4, 0] dX10_sheet_113 rfl (nI_1 _) (by decide) rfl ?_
                  refine z_goto hz 93 dX10_sheet_116 (by decide) ?_
                  exact ih_93 (k + 1) (upd nb2 ((40 * j) + k) 0) (by omega) (by simp only [zeF]; rw [← hn]) (by omega)
            exact lp_93 ((40 - 0) + 1) 0 nb (Nat.zero_le _) rfl (Nat.lt_succ_self _)
          · refine z_aload_n hz dX10_sheet_61 0 rfl rfl ?_
            refine z_ldc hz q2031 dX10_sheet_62 ?_
            refine z_callD (bs2 := [zO (ad 99) 10 (mFs ad iv), zI (G.2.2.1 0) (ad 0) 602 g, zI (G.2.2.1 0) (ad 4) 6 (upd er 1 (er 1 + 1)), zI (G.2.2.1 0) (ad 25) 4 wd, zI (G.2.2.1 0) (ad 26) 4 sz, zI (G.2.2.1 0) (ad 27) 160 nb]) (st2 := [.int (-1000001)]) hz hA (zk_V hz (rm := (zRm 0 0 0 0)) (As := [.int (-1000001)]) (rest := []) 1 q2032 q2034 qs35 q95 q2035 (by decide +kernel) ⟨Nat.le_of_ble_eq_true rfl, Nat.le_of_ble_eq_true rfl⟩ ⟨Nat.le_of_ble_eq_true rfl, Nat.le_of_ble_eq_true rfl⟩ (zRecv (q := (RX10, TX10, 29)) hz (zAt.mt 0 0 rfl rfl) rfl) rfl rfl (Nat.le_of_ble_eq_true rfl) dX10_sheet_64) (mM_finding ad iv er (-1000001) 1 (by decide) (by decide)) [0, 2] rfl (by decide) rfl rfl ?_
            exact z_iret hQ hz hr hlk dX10_sheet_67 (by
              have e9 : sSheet wd sz nb (nI j) bits nn = (1, 0, wd, sz, nb) := by simp [sSheet, inR, nI_clamp, c1, c2, c4, (Int32.not_lt.mpr c5), c6, t_j]
              rw [e9]; exact ⟨congrArg (fun z => some (Value.int z)) rE1, rfl⟩)
        · refine z_aload_n hz dX10_sheet_44 0 rfl rfl ?_
          refine z_ldc hz q2061 dX10_sheet_45 ?_
          refine z_callD (bs2 := [zO (ad 99) 10 (mFs ad iv), zI (G.2.2.1 0) (ad 0) 602 g, zI (G.2.2.1 0) (ad 4) 6 (upd er 3 (er 3 + 1)), zI (G.2.2.1 0) (ad 25) 4 wd, zI (G.2.2.1 0) (ad 26) 4 sz, zI (G.2.2.1 0) (ad 27) 160 nb]) (st2 := [.int (-1000003)]) hz hA (zk_V hz (rm := (zRm 0 0 0 0)) (As := [.int (-1000003)]) (rest := []) 1 q2032 q2034 qs35 q95 q2035 (by decide +kernel) ⟨Nat.le_of_ble_eq_true rfl, Nat.le_of_ble_eq_true rfl⟩ ⟨Nat.le_of_ble_eq_true rfl, Nat.le_of_ble_eq_true rfl⟩ (zRecv (q := (RX10, TX10, 29)) hz (zAt.mt 0 0 rfl rfl) rfl) rfl rfl (Nat.le_of_ble_eq_true rfl) dX10_sheet_47) (mM_finding ad iv er (-1000003) 3 (by decide) (by decide)) [0, 2] rfl (by decide) rfl rfl ?_
          exact z_iret hQ hz hr hlk dX10_sheet_50 (by
            have e9 : sSheet wd sz nb (nI j) bits nn = (3, 0, wd, sz, nb) := by simp [sSheet, inR, nI_clamp, c1, c2, c4, (Int32.not_le.mp c5), t_j]
            rw [e9]; exact ⟨congrArg (fun z => some (Value.int z)) rE3, rfl⟩)
      · refine z_iload_n hz dX10_sheet_17 2 rfl rfl ?_
        refine z_bipush hz 16 dX10_sheet_18 kb_16 ?_
        refine z_icmp_eq hz 36 dX10_sheet_20 (by decide) (fun c8 => ?_) (fun c8 => ?_)
        · refine z_iload_n hz dX10_sheet_36 2 rfl rfl ?_
          refine z_if_eqF hz 51 dX10_sheet_37 (by decide) c2 ?_
          refine z_iload_n hz dX10_sheet_40 3 rfl rfl ?_
          refine z_if_ge hz 51 dX10_sheet_41 (by decide) (fun c9 => ?_) (fun c9 => ?_)
          · refine z_iload_n hz dX10_sheet_51 2 rfl rfl ?_
            refine z_if_eqF hz 68 dX10_sheet_52 (by decide) c2 ?_
            refine z_iload_n hz dX10_sheet_55 3 rfl rfl ?_
            refine z_bipush hz 40 dX10_sheet_56 kb_40 ?_
            refine z_icmp_le hz 68 dX10_sheet_58 (by decide) (fun c10 => ?_) (fun c10 => ?_)
            · refine z_aload_n hz dX10_sheet_68 0 rfl rfl ?_
              refine z_get (C := RX10) (T := TX10) (N := 29) hz in_X10 (zAt.mt 0 0 rfl rfl) rfl 25 (by decide) q1954 (fun _ h9 => h9) rfl dX10_sheet_69 ?_
              refine z_iload_n hz dX10_sheet_72 1 rfl rfl ?_
              refine z_iload_n hz dX10_sheet_73 2 rfl rfl ?_
              refine z_iast hz 3 0 rfl rfl rfl (by omega) (by decide) dX10_sheet_74 ?_
              refine z_bs (bs2 := [zO (ad 99) 10 (mFs ad iv), zI (G.2.2.1 0) (ad 0) 602 g, zI (G.2.2.1 0) (ad 4) 6 er, zI (G.2.2.1 0) (ad 25) 4 (upd wd j bits), zI (G.2.2.1 0) (ad 26) 4 sz, zI (G.2.2.1 0) (ad 27) 160 nb]) rfl ?_
              refine z_aload_n hz dX10_sheet_75 0 rfl rfl ?_
              refine z_get (C := RX10) (T := TX10) (N := 29) hz in_X10 (zAt.mt 0 0 rfl rfl) rfl 26 (by decide) q1955 (fun _ h9 => h9) rfl dX10_sheet_76 ?_
              refine z_iload_n hz dX10_sheet_79 1 rfl rfl ?_
              refine z_iload_n hz dX10_sheet_80 2 rfl rfl ?_
              refine z_if_neT hz 88 dX10_sheet_81 (by decide) c2 ?_
              refine z_iload_n hz dX10_sheet_88 3 rfl rfl ?_
              refine z_iast hz 4 0 rfl rfl rfl (by omega) (by decide) dX10_sheet_89 ?_
              refine z_bs (bs2 := [zO (ad 99) 10 (mFs ad iv), zI (G.2.2.1 0) (ad 0) 602 g, zI (G.2.2.1 0) (ad 4) 6 er, zI (G.2.2.1 0) (ad 25) 4 (upd wd j bits), zI (G.2.2.1 0) (ad 26) 4 (upd sz j nn), zI (G.2.2.1 0) (ad 27) 160 nb]) rfl ?_
              refine z_iconst hz 0 dX10_sheet_90 ki_0 ?_
              refine z_istore (lv' := [(0, .ref (ad 99)), (1, .int (nI j)), (2, .int bits), (3, .int nn), (4, .int 0)]) hz [1, 2, 3, 4, 0] dX10_sheet_91 (by decide) rfl ?_
              have lp_93 : ∀ (n9 : Nat) (k : Nat) (nb2 : Nat → Int32), k ≤ 40 → nb2 = zeF nb j k → 40 - k < n9 → zW p G.1 e (zRm 2 0 0 60) s m args below meth c 5 Q 0 0 (zΦ G A s [zO (ad 99) 10 (mFs ad iv), zI (G.2.2.1 0) (ad 0) 602 g, zI (G.2.2.1 0) (ad 4) 6 er, zI (G.2.2.1 0) (ad 25) 4 (upd wd j bits), zI (G.2.2.1 0) (ad 26) 4 (upd sz j nn), zI (G.2.2.1 0) (ad 27) 160 nb2]) 93 [(0, .ref (ad 99)), (1, .int (nI j)), (2, .int bits), (3, .int nn), (4, .int (nI k))] [] := by
                intro n9
                induction n9 with
                | zero => intro _ _ _ _ hm; exact absurd hm (Nat.not_lt_zero _)
                | succ n9 ih_93 =>
                  intro k nb2 hk hn hm_93
                  refine z_iload hz dX10_sheet_93 4 rfl ?_
                  refine z_bipush hz 40 dX10_sheet_95 kb_40 ?_
                  refine z_icmpN_ge hz rfl kn_40 (by omega) (by decide) 119 dX10_sheet_97 (by decide) (fun c11 => ?_) (fun c11 => ?_)
                  · refine z_iconst hz 1 dX10_sheet_119 ki_1 ?_
                    exact z_iret hQ hz hr hlk dX10_sheet_120 (by
                      have e9 : sSheet wd sz nb (nI j) bits nn = (0, 1, upd wd j bits, upd sz j nn, nb2) := by rw [show nb2 = zeF nb j 40 from by rw [hn, show k = 40 by omega]]; simp [sSheet, inR, c1, c2, c4, c8, (Int32.not_lt.mpr c9), c10, c11, t_j, Int32.not_lt.mpr c10]
                      rw [e9]; exact ⟨congrArg (fun z => some (Value.int z)) rOf_0.symm, rfl⟩)
                  · refine z_aload_n hz dX10_sheet_100 0 rfl rfl ?_
                    refine z_get (C := RX10) (T := TX10) (N := 29) hz in_X10 (zAt.mt 0 0 rfl rfl) rfl 27 (by decide) q1956 (fun _ h9 => h9) rfl dX10_sheet_101 ?_
                    refine z_bipush hz 40 dX10_sheet_104 kb_40 ?_
                    refine z_iload_n hz dX10_sheet_106 1 rfl rfl ?_
                    refine z_imulN hz kn_40 rfl dX10_sheet_107 ?_
                    refine z_iload hz dX10_sheet_108 4 rfl ?_
                    refine z_iaddN hz rfl rfl dX10_sheet_110 ?_
                    refine z_iconst hz 0 dX10_sheet_111 ki_0 ?_
                    refine z_iast hz 5 0 rfl rfl rfl (by omega) (by decide) dX10_sheet_112 ?_
                    refine z_bs (bs2 := [zO (ad 99) 10 (mFs ad iv), zI (G.2.2.1 0) (ad 0) 602 g, zI (G.2.2.1 0) (ad 4) 6 er, zI (G.2.2.1 0) (ad 25) 4 (upd wd j bits), zI (G.2.2.1 0) (ad 26) 4 (upd sz j nn), zI (G.2.2.1 0) (ad 27) 160 (upd nb2 ((40 * j) + k) 0)]) rfl ?_
                    refine z_iinc (lv' := [(0, .ref (ad 99)), (1, .int (nI j)), (2, .int bits), (3, .int nn), (4, .int (nI (k + 1)))]) hz (nI (k + 1)) 4 [1, 2, 3, 4, 0] dX10_sheet_113 rfl (nI_1 _) (by decide) rfl ?_
                    refine z_goto hz 93 dX10_sheet_116 (by decide) ?_
                    exact ih_93 (k + 1) (upd nb2 ((40 * j) + k) 0) (by omega) (by simp only [zeF]; rw [← hn]) (by omega)
              exact lp_93 ((40 - 0) + 1) 0 nb (Nat.zero_le _) rfl (Nat.lt_succ_self _)
            · refine z_aload_n hz dX10_sheet_61 0 rfl rfl ?_
              refine z_ldc hz q2031 dX10_sheet_62 ?_
              refine z_callD (bs2 := [zO (ad 99) 10 (mFs ad iv), zI (G.2.2.1 0) (ad 0) 602 g, zI (G.2.2.1 0) (ad 4) 6 (upd er 1 (er 1 + 1)), zI (G.2.2.1 0) (ad 25) 4 wd, zI (G.2.2.1 0) (ad 26) 4 sz, zI (G.2.2.1 0) (ad 27) 160 nb]) (st2 := [.int (-1000001)]) hz hA (zk_V hz (rm := (zRm 0 0 0 0)) (As := [.int (-1000001)]) (rest := []) 1 q2032 q2034 qs35 q95 q2035 (by decide +kernel) ⟨Nat.le_of_ble_eq_true rfl, Nat.le_of_ble_eq_true rfl⟩ ⟨Nat.le_of_ble_eq_true rfl, Nat.le_of_ble_eq_true rfl⟩ (zRecv (q := (RX10, TX10, 29)) hz (zAt.mt 0 0 rfl rfl) rfl) rfl rfl (Nat.le_of_ble_eq_true rfl) dX10_sheet_64) (mM_finding ad iv er (-1000001) 1 (by decide) (by decide)) [0, 2] rfl (by decide) rfl rfl ?_
              exact z_iret hQ hz hr hlk dX10_sheet_67 (by
                have e9 : sSheet wd sz nb (nI j) bits nn = (1, 0, wd, sz, nb) := by simp [sSheet, inR, nI_clamp, c1, c2, c4, c8, (Int32.not_lt.mpr c9), c10, t_j]
                rw [e9]; exact ⟨congrArg (fun z => some (Value.int z)) rE1, rfl⟩)
          · refine z_aload_n hz dX10_sheet_44 0 rfl rfl ?_
            refine z_ldc hz q2061 dX10_sheet_45 ?_
            refine z_callD (bs2 := [zO (ad 99) 10 (mFs ad iv), zI (G.2.2.1 0) (ad 0) 602 g, zI (G.2.2.1 0) (ad 4) 6 (upd er 3 (er 3 + 1)), zI (G.2.2.1 0) (ad 25) 4 wd, zI (G.2.2.1 0) (ad 26) 4 sz, zI (G.2.2.1 0) (ad 27) 160 nb]) (st2 := [.int (-1000003)]) hz hA (zk_V hz (rm := (zRm 0 0 0 0)) (As := [.int (-1000003)]) (rest := []) 1 q2032 q2034 qs35 q95 q2035 (by decide +kernel) ⟨Nat.le_of_ble_eq_true rfl, Nat.le_of_ble_eq_true rfl⟩ ⟨Nat.le_of_ble_eq_true rfl, Nat.le_of_ble_eq_true rfl⟩ (zRecv (q := (RX10, TX10, 29)) hz (zAt.mt 0 0 rfl rfl) rfl) rfl rfl (Nat.le_of_ble_eq_true rfl) dX10_sheet_47) (mM_finding ad iv er (-1000003) 3 (by decide) (by decide)) [0, 2] rfl (by decide) rfl rfl ?_
            exact z_iret hQ hz hr hlk dX10_sheet_50 (by
              have e9 : sSheet wd sz nb (nI j) bits nn = (3, 0, wd, sz, nb) := by simp [sSheet, inR, nI_clamp, c1, c2, c4, c8, (Int32.not_le.mp c9), t_j]
              rw [e9]; exact ⟨congrArg (fun z => some (Value.int z)) rE3, rfl⟩)
        · refine z_iload_n hz dX10_sheet_23 2 rfl rfl ?_
          refine z_bipush hz 32 dX10_sheet_24 kb_32 ?_
          refine z_icmp_eq hz 36 dX10_sheet_26 (by decide) (fun c12 => ?_) (fun c12 => ?_)
          · refine z_iload_n hz dX10_sheet_36 2 rfl rfl ?_
            refine z_if_eqF hz 51 dX10_sheet_37 (by decide) c2 ?_
            refine z_iload_n hz dX10_sheet_40 3 rfl rfl ?_
            refine z_if_ge hz 51 dX10_sheet_41 (by decide) (fun c13 => ?_) (fun c13 => ?_)
            · refine z_iload_n hz dX10_sheet_51 2 rfl rfl ?_
              refine z_if_eqF hz 68 dX10_sheet_52 (by decide) c2 ?_
              refine z_iload_n hz dX10_sheet_55 3 rfl rfl ?_
              refine z_bipush hz 40 dX10_sheet_56 kb_40 ?_
              refine z_icmp_le hz 68 dX10_sheet_58 (by decide) (fun c14 => ?_) (fun c14 => ?_)
              · refine z_aload_n hz dX10_sheet_68 0 rfl rfl ?_
                refine z_get (C := RX10) (T := TX10) (N := 29) hz in_X10 (zAt.mt 0 0 rfl rfl) rfl 25 (by decide) q1954 (fun _ h9 => h9) rfl dX10_sheet_69 ?_
                refine z_iload_n hz dX10_sheet_72 1 rfl rfl ?_
                refine z_iload_n hz dX10_sheet_73 2 rfl rfl ?_
                refine z_iast hz 3 0 rfl rfl rfl (by omega) (by decide) dX10_sheet_74 ?_
                refine z_bs (bs2 := [zO (ad 99) 10 (mFs ad iv), zI (G.2.2.1 0) (ad 0) 602 g, zI (G.2.2.1 0) (ad 4) 6 er, zI (G.2.2.1 0) (ad 25) 4 (upd wd j bits), zI (G.2.2.1 0) (ad 26) 4 sz, zI (G.2.2.1 0) (ad 27) 160 nb]) rfl ?_
                refine z_aload_n hz dX10_sheet_75 0 rfl rfl ?_
                refine z_get (C := RX10) (T := TX10) (N := 29) hz in_X10 (zAt.mt 0 0 rfl rfl) rfl 26 (by decide) q1955 (fun _ h9 => h9) rfl dX10_sheet_76 ?_
                refine z_iload_n hz dX10_sheet_79 1 rfl rfl ?_
                refine z_iload_n hz dX10_sheet_80 2 rfl rfl ?_
                refine z_if_neT hz 88 dX10_sheet_81 (by decide) c2 ?_
                refine z_iload_n hz dX10_sheet_88 3 rfl rfl ?_
                refine z_iast hz 4 0 rfl rfl rfl (by omega) (by decide) dX10_sheet_89 ?_
                refine z_bs (bs2 := [zO (ad 99) 10 (mFs ad iv), zI (G.2.2.1 0) (ad 0) 602 g, zI (G.2.2.1 0) (ad 4) 6 er, zI (G.2.2.1 0) (ad 25) 4 (upd wd j bits), zI (G.2.2.1 0) (ad 26) 4 (upd sz j nn), zI (G.2.2.1 0) (ad 27) 160 nb]) rfl ?_
                refine z_iconst hz 0 dX10_sheet_90 ki_0 ?_
                refine z_istore (lv' := [(0, .ref (ad 99)), (1, .int (nI j)), (2, .int bits), (3, .int nn), (4, .int 0)]) hz [1, 2, 3, 4, 0] dX10_sheet_91 (by decide) rfl ?_
                have lp_93 : ∀ (n9 : Nat) (k : Nat) (nb2 : Nat → Int32), k ≤ 40 → nb2 = zeF nb j k → 40 - k < n9 → zW p G.1 e (zRm 2 0 0 60) s m args below meth c 5 Q 0 0 (zΦ G A s [zO (ad 99) 10 (mFs ad iv), zI (G.2.2.1 0) (ad 0) 602 g, zI (G.2.2.1 0) (ad 4) 6 er, zI (G.2.2.1 0) (ad 25) 4 (upd wd j bits), zI (G.2.2.1 0) (ad 26) 4 (upd sz j nn), zI (G.2.2.1 0) (ad 27) 160 nb2]) 93 [(0, .ref (ad 99)), (1, .int (nI j)), (2, .int bits), (3, .int nn), (4, .int (nI k))] [] := by
                  intro n9
                  induction n9 with
                  | zero => intro _ _ _ _ hm; exact absurd hm (Nat.not_lt_zero _)
                  | succ n9 ih_93 =>
                    intro k nb2 hk hn hm_93
                    refine z_iload hz dX10_sheet_93 4 rfl ?_
                    refine z_bipush hz 40 dX10_sheet_95 kb_40 ?_
                    refine z_icmpN_ge hz rfl kn_40 (by omega) (by decide) 119 dX10_sheet_97 (by decide) (fun c15 => ?_) (fun c15 => ?_)
                    · refine z_iconst hz 1 dX10_sheet_119 ki_1 ?_
                      exact z_iret hQ hz hr hlk dX10_sheet_120 (by
                        have e9 : sSheet wd sz nb (nI j) bits nn = (0, 1, upd wd j bits, upd sz j nn, nb2) := by rw [show nb2 = zeF nb j 40 from by rw [hn, show k = 40 by omega]]; simp [sSheet, inR, c1, c2, c4, c8, c12, (Int32.not_lt.mpr c13), c14, c15, t_j, Int32.not_lt.mpr c14]
                        rw [e9]; exact ⟨congrArg (fun z => some (Value.int z)) rOf_0.symm, rfl⟩)
                    · refine z_aload_n hz dX10_sheet_100 0 rfl rfl ?_
                      refine z_get (C := RX10) (T := TX10) (N := 29) hz in_X10 (zAt.mt 0 0 rfl rfl) rfl 27 (by decide) q1956 (fun _ h9 => h9) rfl dX10_sheet_101 ?_
                      refine z_bipush hz 40 dX10_sheet_104 kb_40 ?_
                      refine z_iload_n hz dX10_sheet_106 1 rfl rfl ?_
                      refine z_imulN hz kn_40 rfl dX10_sheet_107 ?_
                      refine z_iload hz dX10_sheet_108 4 rfl ?_
                      refine z_iaddN hz rfl rfl dX10_sheet_110 ?_
                      refine z_iconst hz 0 dX10_sheet_111 ki_0 ?_
                      refine z_iast hz 5 0 rfl rfl rfl (by omega) (by decide) dX10_sheet_112 ?_
                      refine z_bs (bs2 := [zO (ad 99) 10 (mFs ad iv), zI (G.2.2.1 0) (ad 0) 602 g, zI (G.2.2.1 0) (ad 4) 6 er, zI (G.2.2.1 0) (ad 25) 4 (upd wd j bits), zI (G.2.2.1 0) (ad 26) 4 (upd sz j nn), zI (G.2.2.1 0) (ad 27) 160 (upd nb2 ((40 * j) + k) 0)]) rfl ?_
                      refine z_iinc (lv' := [(0, .ref (ad 99)), (1, .int (nI j)), (2, .int bits), (3, .int nn), (4, .int (nI (k + 1)))]) hz (nI (k + 1)) 4 [1, 2, 3, 4, 0] dX10_sheet_113 rfl (nI_1 _) (by decide) rfl ?_
                      refine z_goto hz 93 dX10_sheet_116 (by decide) ?_
                      exact ih_93 (k + 1) (upd nb2 ((40 * j) + k) 0) (by omega) (by simp only [zeF]; rw [← hn]) (by omega)
                exact lp_93 ((40 - 0) + 1) 0 nb (Nat.zero_le _) rfl (Nat.lt_succ_self _)
              · refine z_aload_n hz dX10_sheet_61 0 rfl rfl ?_
                refine z_ldc hz q2031 dX10_sheet_62 ?_
                refine z_callD (bs2 := [zO (ad 99) 10 (mFs ad iv), zI (G.2.2.1 0) (ad 0) 602 g, zI (G.2.2.1 0) (ad 4) 6 (upd er 1 (er 1 + 1)), zI (G.2.2.1 0) (ad 25) 4 wd, zI (G.2.2.1 0) (ad 26) 4 sz, zI (G.2.2.1 0) (ad 27) 160 nb]) (st2 := [.int (-1000001)]) hz hA (zk_V hz (rm := (zRm 0 0 0 0)) (As := [.int (-1000001)]) (rest := []) 1 q2032 q2034 qs35 q95 q2035 (by decide +kernel) ⟨Nat.le_of_ble_eq_true rfl, Nat.le_of_ble_eq_true rfl⟩ ⟨Nat.le_of_ble_eq_true rfl, Nat.le_of_ble_eq_true rfl⟩ (zRecv (q := (RX10, TX10, 29)) hz (zAt.mt 0 0 rfl rfl) rfl) rfl rfl (Nat.le_of_ble_eq_true rfl) dX10_sheet_64) (mM_finding ad iv er (-1000001) 1 (by decide) (by decide)) [0, 2] rfl (by decide) rfl rfl ?_
                exact z_iret hQ hz hr hlk dX10_sheet_67 (by
                  have e9 : sSheet wd sz nb (nI j) bits nn = (1, 0, wd, sz, nb) := by simp [sSheet, inR, nI_clamp, c1, c2, c4, c8, c12, (Int32.not_lt.mpr c13), c14, t_j]
                  rw [e9]; exact ⟨congrArg (fun z => some (Value.int z)) rE1, rfl⟩)
            · refine z_aload_n hz dX10_sheet_44 0 rfl rfl ?_
              refine z_ldc hz q2061 dX10_sheet_45 ?_
              refine z_callD (bs2 := [zO (ad 99) 10 (mFs ad iv), zI (G.2.2.1 0) (ad 0) 602 g, zI (G.2.2.1 0) (ad 4) 6 (upd er 3 (er 3 + 1)), zI (G.2.2.1 0) (ad 25) 4 wd, zI (G.2.2.1 0) (ad 26) 4 sz, zI (G.2.2.1 0) (ad 27) 160 nb]) (st2 := [.int (-1000003)]) hz hA (zk_V hz (rm := (zRm 0 0 0 0)) (As := [.int (-1000003)]) (rest := []) 1 q2032 q2034 qs35 q95 q2035 (by decide +kernel) ⟨Nat.le_of_ble_eq_true rfl, Nat.le_of_ble_eq_true rfl⟩ ⟨Nat.le_of_ble_eq_true rfl, Nat.le_of_ble_eq_true rfl⟩ (zRecv (q := (RX10, TX10, 29)) hz (zAt.mt 0 0 rfl rfl) rfl) rfl rfl (Nat.le_of_ble_eq_true rfl) dX10_sheet_47) (mM_finding ad iv er (-1000003) 3 (by decide) (by decide)) [0, 2] rfl (by decide) rfl rfl ?_
              exact z_iret hQ hz hr hlk dX10_sheet_50 (by
                have e9 : sSheet wd sz nb (nI j) bits nn = (3, 0, wd, sz, nb) := by simp [sSheet, inR, nI_clamp, c1, c2, c4, c8, c12, (Int32.not_le.mp c13), t_j]
                rw [e9]; exact ⟨congrArg (fun z => some (Value.int z)) rE3, rfl⟩)
          · refine z_aload_n hz dX10_sheet_29 0 rfl rfl ?_
            refine z_ldc hz q2031 dX10_sheet_30 ?_
            refine z_callD (bs2 := [zO (ad 99) 10 (mFs ad iv), zI (G.2.2.1 0) (ad 0) 602 g, zI (G.2.2.1 0) (ad 4) 6 (upd er 1 (er 1 + 1)), zI (G.2.2.1 0) (ad 25) 4 wd, zI (G.2.2.1 0) (ad 26) 4 sz, zI (G.2.2.1 0) (ad 27) 160 nb]) (st2 := [.int (-1000001)]) hz hA (zk_V hz (rm := (zRm 0 0 0 0)) (As := [.int (-1000001)]) (rest := []) 1 q2032 q2034 qs35 q95 q2035 (by decide +kernel) ⟨Nat.le_of_ble_eq_true rfl, Nat.le_of_ble_eq_true rfl⟩ ⟨Nat.le_of_ble_eq_true rfl, Nat.le_of_ble_eq_true rfl⟩ (zRecv (q := (RX10, TX10, 29)) hz (zAt.mt 0 0 rfl rfl) rfl) rfl rfl (Nat.le_of_ble_eq_true rfl) dX10_sheet_32) (mM_finding ad iv er (-1000001) 1 (by decide) (by decide)) [0, 2] rfl (by decide) rfl rfl ?_
            exact z_iret hQ hz hr hlk dX10_sheet_35 (by
              have e9 : sSheet wd sz nb (nI j) bits nn = (1, 0, wd, sz, nb) := by simp [sSheet, inR, nI_clamp, c1, c2, c4, c8, c12, t_j]
              rw [e9]; exact ⟨congrArg (fun z => some (Value.int z)) rE1, rfl⟩)
set_option maxHeartbeats 1000000 in
theorem mM_put {G : zG} (ad : Nat → Nat) (iv g er wd sz nb : Nat → Int32) (sheet xx v : Int32) (hsz : ∀ q, q < 4 → ∃ z, z ≤ 40 ∧ sz q = nI z) : zMet G yX10_put (ws_ yX10_put cX10_put 4 (some .int)) (zRm 2 0 0 60) [.ref (ad 99), .int sheet, .int xx, .int v] [zO (ad 99) 10 (mFs ad iv), zI (G.2.2.1 0) (ad 0) 602 g, zI (G.2.2.1 0) (ad 4) 6 er, zI (G.2.2.1 0) (ad 25) 4 wd, zI (G.2.2.1 0) (ad 26) 4 sz, zI (G.2.2.1 0) (ad 27) 160 nb] (fun v9 b9 => v9 = some (.int (rT (sPut wd sz nb sheet xx v))) ∧ b9 = [zO (ad 99) 10 (mFs ad iv), zI (G.2.2.1 0) (ad 0) 602 g, zI (G.2.2.1 0) (ad 4) 6 (eT er (sPut wd sz nb sheet xx v)), zI (G.2.2.1 0) (ad 25) 4 ((sPut wd sz nb sheet xx v).2.2.1), zI (G.2.2.1 0) (ad 26) 4 ((sPut wd sz nb sheet xx v).2.2.2.1), zI (G.2.2.1 0) (ad 27) 160 ((sPut wd sz nb sheet xx v).2.2.2.2)]) := by
  refine zMet.of (by decide +kernel) (Nat.le_of_ble_eq_true rfl) ?_
  intro p e s m args below meth c A hz hA hr hlk hnm9 Q hQ
  refine z_lv (lv' := [(0, .ref (ad 99)), (1, .int sheet), (2, .int xx), (3, .int v)]) [0, 1, 2, 3] rfl ?_
  refine z_iload_n hz dX10_put_0 1 rfl rfl ?_
  refine z_callRD (st2 := [.int (zB (inR sheet 0 3))]) hz zKp.mt (zk_S hz (rm := (zRm 1 0 0 30)) (As := [.int sheet]) (rest := []) 1 q2356 q2357 q95 q2358 (by decide +kernel) ⟨Nat.le_of_ble_eq_true rfl, Nat.le_of_ble_eq_true rfl⟩ ⟨Nat.le_of_ble_eq_true rfl, Nat.le_of_ble_eq_true rfl⟩ rfl rfl (Nat.le_of_ble_eq_true rfl) dX10_put_1) (mM_isSheet sheet) (fun _ _ _ => zP0) rfl ?_
  refine z_ifB_ne hz 14 dX10_put_4 (by decide) (fun c1 => ?_) (fun c1 => ?_)
  · obtain ⟨j, j_lo, j_hi, rfl⟩ := inR_nat 0 3 kn_0 kn_3 (by decide) (by decide) c1
    have t_j : tN (nI j) = j := nI_clamp (by omega)
    refine z_aload_n hz dX10_put_14 0 rfl rfl ?_
    refine z_get (C := RX10) (T := TX10) (N := 29) hz in_X10 (zAt.mt 0 0 rfl rfl) rfl 25 (by decide) q1954 (fun _ h9 => h9) rfl dX10_put_15 ?_
    refine z_iload_n hz dX10_put_18 1 rfl rfl ?_
    refine z_iald hz (zAt.mt 3 0 rfl rfl) rfl (by omega) (by decide) dX10_put_19 ?_
    refine z_if_ne hz 30 dX10_put_20 (by decide) (fun c2 => ?_) (fun c2 => ?_)
    · refine z_iload_n hz dX10_put_30 2 rfl rfl ?_
      refine z_iconst hz 0 dX10_put_31 ki_0 ?_
      refine z_aload_n hz dX10_put_32 0 rfl rfl ?_
      refine z_get (C := RX10) (T := TX10) (N := 29) hz in_X10 (zAt.mt 0 0 rfl rfl) rfl 26 (by decide) q1955 (fun _ h9 => h9) rfl dX10_put_33 ?_
      refine z_iload_n hz dX10_put_36 1 rfl rfl ?_
      refine z_iald hz (zAt.mt 4 0 rfl rfl) rfl (by omega) (by decide) dX10_put_37 ?_
      refine z_iconst hz 1 dX10_put_38 ki_1 ?_
      refine z_isub hz dX10_put_39 ?_
      refine z_callRD (st2 := [.int (zB (inR xx 0 ((sz j) - 1)))]) hz zKp.mt (zk_S hz (rm := (zRm 0 0 0 0)) (As := [.int xx, .int 0, .int ((sz j) - 1)]) (rest := []) 3 q2023 q2024 q95 q2025 (by decide +kernel) ⟨Nat.le_of_ble_eq_true rfl, Nat.le_of_ble_eq_true rfl⟩ ⟨Nat.le_of_ble_eq_true rfl, Nat.le_of_ble_eq_true rfl⟩ rfl rfl (Nat.le_of_ble_eq_true rfl) dX10_put_40) (mM_within xx 0 ((sz j) - 1)) (fun _ _ _ => zP0) rfl ?_
      refine z_ifB_ne hz 53 dX10_put_43 (by decide) (fun c3 => ?_) (fun c3 => ?_)
      · obtain ⟨z, hz40, hsz0⟩ := hsz j (by omega)
        obtain ⟨x, hxz, rfl⟩ := is_nat (g := sz) (k := j) hsz0 (by omega) c3
        have t_x : tN (nI x) = x := nI_clamp (by omega)
        refine z_aload_n hz dX10_put_53 0 rfl rfl ?_
        refine z_get (C := RX10) (T := TX10) (N := 29) hz in_X10 (zAt.mt 0 0 rfl rfl) rfl 27 (by decide) q1956 (fun _ h9 => h9) rfl dX10_put_54 ?_
        refine z_bipush hz 40 dX10_put_57 kb_40 ?_
        refine z_iload_n hz dX10_put_59 1 rfl rfl ?_
        refine z_imulN hz kn_40 rfl dX10_put_60 ?_
        refine z_iload_n hz dX10_put_61 2 rfl rfl ?_
        refine z_iaddN hz rfl rfl dX10_put_62 ?_
        refine z_aload_n hz dX10_put_63 0 rfl rfl ?_
        refine z_get (C := RX10) (T := TX10) (N := 29) hz in_X10 (zAt.mt 0 0 rfl rfl) rfl 25 (by decide) q1954 (fun _ h9 => h9) rfl dX10_put_64 ?_
        refine z_iload_n hz dX10_put_67 1 rfl rfl ?_
        refine z_iald hz (zAt.mt 3 0 rfl rfl) rfl (by omega) (by decide) dX10_put_68 ?_
        refine z_bipush hz 8 dX10_put_69 kb_8 ?_
        refine z_icmp_ne hz 79 dX10_put_71 (by decide) (fun c4 => ?_) (fun c4 => ?_)
        · refine z_aload_n hz dX10_put_79 0 rfl rfl ?_
          refine z_get (C := RX10) (T := TX10) (N := 29) hz in_X10 (zAt.mt 0 0 rfl rfl) rfl 25 (by decide) q1954 (fun _ h9 => h9) rfl dX10_put_80 ?_
          refine z_iload_n hz dX10_put_83 1 rfl rfl ?_
          refine z_iald hz (zAt.mt 3 0 rfl rfl) rfl (by omega) (by decide) dX10_put_84 ?_
          refine z_bipush hz 16 dX10_put_85 kb_16 ?_
          refine z_icmp_ne hz 95 dX10_put_87 (by decide) (fun c5 => ?_) (fun c5 => ?_)
          · refine z_iload_n hz dX10_put_95 3 rfl rfl ?_
            refine z_iast hz 5 0 rfl rfl rfl (by omega) (by decide) dX10_put_96 ?_
            refine z_bs (bs2 := [zO (ad 99) 10 (mFs ad iv), zI (G.2.2.1 0) (ad 0) 602 g, zI (G.2.2.1 0) (ad 4) 6 er, zI (G.2.2.1 0) (ad 25) 4 wd, zI (G.2.2.1 0) (ad 26) 4 sz, zI (G.2.2.1 0) (ad 27) 160 (upd nb ((40 * j) + x) v)]) rfl ?_
            refine z_iconst hz 1 dX10_put_97 ki_1 ?_
            exact z_iret hQ hz hr hlk dX10_put_98 (by
              have e9 : sPut wd sz nb (nI j) (nI x) v = (0, 1, wd, sz, upd nb ((40 * j) + x) v) := by simp [sPut, narW, inR, nI_clamp, c1, c2, c3, c4, c5, t_j, t_x]
              rw [e9]; exact ⟨congrArg (fun z => some (Value.int z)) rOf_0.symm, rfl⟩)
          · refine z_iload_n hz dX10_put_90 3 rfl rfl ?_
            refine z_i2s hz dX10_put_91 ?_
            refine z_goto hz 96 dX10_put_92 (by decide) ?_
            refine z_iast hz 5 0 rfl rfl rfl (by omega) (by decide) dX10_put_96 ?_
            refine z_bs (bs2 := [zO (ad 99) 10 (mFs ad iv), zI (G.2.2.1 0) (ad 0) 602 g, zI (G.2.2.1 0) (ad 4) 6 er, zI (G.2.2.1 0) (ad 25) 4 wd, zI (G.2.2.1 0) (ad 26) 4 sz, zI (G.2.2.1 0) (ad 27) 160 (upd nb ((40 * j) + x) v.toInt16.toInt32)]) rfl ?_
            refine z_iconst hz 1 dX10_put_97 ki_1 ?_
            exact z_iret hQ hz hr hlk dX10_put_98 (by
              have e9 : sPut wd sz nb (nI j) (nI x) v = (0, 1, wd, sz, upd nb ((40 * j) + x) v.toInt16.toInt32) := by simp [sPut, narW, inR, nI_clamp, c1, c2, c3, c4, c5, t_j, t_x]
              rw [e9]; exact ⟨congrArg (fun z => some (Value.int z)) rOf_0.symm, rfl⟩)
        · refine z_iload_n hz dX10_put_74 3 rfl rfl ?_
          refine z_i2b hz dX10_put_75 ?_
          refine z_goto hz 96 dX10_put_76 (by decide) ?_
          refine z_iast hz 5 0 rfl rfl rfl (by omega) (by decide) dX10_put_96 ?_
          refine z_bs (bs2 := [zO (ad 99) 10 (mFs ad iv), zI (G.2.2.1 0) (ad 0) 602 g, zI (G.2.2.1 0) (ad 4) 6 er, zI (G.2.2.1 0) (ad 25) 4 wd, zI (G.2.2.1 0) (ad 26) 4 sz, zI (G.2.2.1 0) (ad 27) 160 (upd nb ((40 * j) + x) v.toInt8.toInt32)]) rfl ?_
          refine z_iconst hz 1 dX10_put_97 ki_1 ?_
          exact z_iret hQ hz hr hlk dX10_put_98 (by
            have e9 : sPut wd sz nb (nI j) (nI x) v = (0, 1, wd, sz, upd nb ((40 * j) + x) v.toInt8.toInt32) := by simp [sPut, narW, inR, nI_clamp, c1, c2, c3, c4, t_j, t_x]
            rw [e9]; exact ⟨congrArg (fun z => some (Value.int z)) rOf_0.symm, rfl⟩)
      · refine z_aload_n hz dX10_put_46 0 rfl rfl ?_
        refine z_ldc hz q2031 dX10_put_47 ?_
        refine z_callD (bs2 := [zO (ad 99) 10 (mFs ad iv), zI (G.2.2.1 0) (ad 0) 602 g, zI (G.2.2.1 0) (ad 4) 6 (upd er 1 (er 1 + 1)), zI (G.2.2.1 0) (ad 25) 4 wd, zI (G.2.2.1 0) (ad 26) 4 sz, zI (G.2.2.1 0) (ad 27) 160 nb]) (st2 := [.int (-1000001)]) hz hA (zk_V hz (rm := (zRm 0 0 0 0)) (As := [.int (-1000001)]) (rest := []) 1 q2032 q2034 qs35 q95 q2035 (by decide +kernel) ⟨Nat.le_of_ble_eq_true rfl, Nat.le_of_ble_eq_true rfl⟩ ⟨Nat.le_of_ble_eq_true rfl, Nat.le_of_ble_eq_true rfl⟩ (zRecv (q := (RX10, TX10, 29)) hz (zAt.mt 0 0 rfl rfl) rfl) rfl rfl (Nat.le_of_ble_eq_true rfl) dX10_put_49) (mM_finding ad iv er (-1000001) 1 (by decide) (by decide)) [0, 2] rfl (by decide) rfl rfl ?_
        exact z_iret hQ hz hr hlk dX10_put_52 (by
          have e9 : sPut wd sz nb (nI j) xx v = (1, 0, wd, sz, nb) := by simp [sPut, narW, inR, nI_clamp, c1, c2, c3, t_j]
          rw [e9]; exact ⟨congrArg (fun z => some (Value.int z)) rE1, rfl⟩)
    · refine z_aload_n hz dX10_put_23 0 rfl rfl ?_
      refine z_ldc hz q2133 dX10_put_24 ?_
      refine z_callD (bs2 := [zO (ad 99) 10 (mFs ad iv), zI (G.2.2.1 0) (ad 0) 602 g, zI (G.2.2.1 0) (ad 4) 6 (upd er 2 (er 2 + 1)), zI (G.2.2.1 0) (ad 25) 4 wd, zI (G.2.2.1 0) (ad 26) 4 sz, zI (G.2.2.1 0) (ad 27) 160 nb]) (st2 := [.int (-1000002)]) hz hA (zk_V hz (rm := (zRm 0 0 0 0)) (As := [.int (-1000002)]) (rest := []) 1 q2032 q2034 qs35 q95 q2035 (by decide +kernel) ⟨Nat.le_of_ble_eq_true rfl, Nat.le_of_ble_eq_true rfl⟩ ⟨Nat.le_of_ble_eq_true rfl, Nat.le_of_ble_eq_true rfl⟩ (zRecv (q := (RX10, TX10, 29)) hz (zAt.mt 0 0 rfl rfl) rfl) rfl rfl (Nat.le_of_ble_eq_true rfl) dX10_put_26) (mM_finding ad iv er (-1000002) 2 (by decide) (by decide)) [0, 2] rfl (by decide) rfl rfl ?_
      exact z_iret hQ hz hr hlk dX10_put_29 (by
        have e9 : sPut wd sz nb (nI j) xx v = (2, 0, wd, sz, nb) := by simp [sPut, narW, inR, nI_clamp, c1, c2, t_j]
        rw [e9]; exact ⟨congrArg (fun z => some (Value.int z)) rE2, rfl⟩)
  · refine z_aload_n hz dX10_put_7 0 rfl rfl ?_
    refine z_ldc hz q2031 dX10_put_8 ?_
    refine z_callD (bs2 := [zO (ad 99) 10 (mFs ad iv), zI (G.2.2.1 0) (ad 0) 602 g, zI (G.2.2.1 0) (ad 4) 6 (upd er 1 (er 1 + 1)), zI (G.2.2.1 0) (ad 25) 4 wd, zI (G.2.2.1 0) (ad 26) 4 sz, zI (G.2.2.1 0) (ad 27) 160 nb]) (st2 := [.int (-1000001)]) hz hA (zk_V hz (rm := (zRm 0 0 0 0)) (As := [.int (-1000001)]) (rest := []) 1 q2032 q2034 qs35 q95 q2035 (by decide +kernel) ⟨Nat.le_of_ble_eq_true rfl, Nat.le_of_ble_eq_true rfl⟩ ⟨Nat.le_of_ble_eq_true rfl, Nat.le_of_ble_eq_true rfl⟩ (zRecv (q := (RX10, TX10, 29)) hz (zAt.mt 0 0 rfl rfl) rfl) rfl rfl (Nat.le_of_ble_eq_true rfl) dX10_put_10) (mM_finding ad iv er (-1000001) 1 (by decide) (by decide)) [0, 2] rfl (by decide) rfl rfl ?_
    exact z_iret hQ hz hr hlk dX10_put_13 (by
      have e9 : sPut wd sz nb sheet xx v = (1, 0, wd, sz, nb) := by simp [sPut, narW, inR, nI_clamp, c1]
      rw [e9]; exact ⟨congrArg (fun z => some (Value.int z)) rE1, rfl⟩)
set_option maxHeartbeats 2000000 in
theorem mM_move {G : zG} (ad : Nat → Nat) (iv g er wd sz nb : Nat → Int32) (ca : Nat → Int32) (sheet xx oo yy nn : Int32) (hsz : ∀ q, q < 4 → ∃ z, z ≤ 40 ∧ sz q = nI z) : zMet G yX10_move (ws_ yX10_move cX10_move 7 (some .int)) (zRm 2 0 0 60) [.ref (ad 99), .int sheet, .int xx, .int oo, .int yy, .int nn] [zO (ad 99) 10 (mFs ad iv), zI (G.2.2.1 0) (ad 0) 602 g, zI (G.2.2.1 0) (ad 4) 6 er, zI (G.2.2.1 0) (ad 25) 4 wd, zI (G.2.2.1 0) (ad 26) 4 sz, zI (G.2.2.1 0) (ad 27) 160 nb, zI (G.2.2.1 0) (ad 28) 40 ca] (fun v9 b9 => v9 = some (.int (rT (sMove wd sz nb sheet xx oo yy nn))) ∧ ∃ ca9 : Nat → Int32, b9 = [zO (ad 99) 10 (mFs ad iv), zI (G.2.2.1 0) (ad 0) 602 g, zI (G.2.2.1 0) (ad 4) 6 (eT er (sMove wd sz nb sheet xx oo yy nn)), zI (G.2.2.1 0) (ad 25) 4 ((sMove wd sz nb sheet xx oo yy nn).2.2.1), zI (G.2.2.1 0) (ad 26) 4 ((sMove wd sz nb sheet xx oo yy nn).2.2.2.1), zI (G.2.2.1 0) (ad 27) 160 ((sMove wd sz nb sheet xx oo yy nn).2.2.2.2), zI (G.2.2.1 0) (ad 28) 40 ca9]) := by
  refine zMet.of (by decide +kernel) (Nat.le_of_ble_eq_true rfl) ?_
  intro p e s m args below meth c A hz hA hr hlk hnm9 Q hQ
  refine z_lv (lv' := [(0, .ref (ad 99)), (1, .int sheet), (2, .int xx), (3, .int oo), (4, .int yy), (5, .int nn)]) [0, 1, 2, 3, 4, 5] rfl ?_
  refine z_iload_n hz dX10_move_0 1 rfl rfl ?_
  refine z_callRD (st2 := [.int (zB (inR sheet 0 3))]) hz zKp.mt (zk_S hz (rm := (zRm 1 0 0 30)) (As := [.int sheet]) (rest := []) 1 q2356 q2357 q95 q2358 (by decide +kernel) ⟨Nat.le_of_ble_eq_true rfl, Nat.le_of_ble_eq_true rfl⟩ ⟨Nat.le_of_ble_eq_true rfl, Nat.le_of_ble_eq_true rfl⟩ rfl rfl (Nat.le_of_ble_eq_true rfl) dX10_move_1) (mM_isSheet sheet) (fun _ _ _ => zP0) rfl ?_
  refine z_ifB_eq hz 14 dX10_move_4 (by decide) (fun c1 => ?_) (fun c1 => ?_)
  · refine z_aload_n hz dX10_move_14 0 rfl rfl ?_
    refine z_ldc hz q2031 dX10_move_15 ?_
    refine z_callD (bs2 := [zO (ad 99) 10 (mFs ad iv), zI (G.2.2.1 0) (ad 0) 602 g, zI (G.2.2.1 0) (ad 4) 6 (upd er 1 (er 1 + 1)), zI (G.2.2.1 0) (ad 25) 4 wd, zI (G.2.2.1 0) (ad 26) 4 sz, zI (G.2.2.1 0) (ad 27) 160 nb, zI (G.2.2.1 0) (ad 28) 40 ca]) (st2 := [.int (-1000001)]) hz hA (zk_V hz (rm := (zRm 0 0 0 0)) (As := [.int (-1000001)]) (rest := []) 1 q2032 q2034 qs35 q95 q2035 (by decide +kernel) ⟨Nat.le_of_ble_eq_true rfl, Nat.le_of_ble_eq_true rfl⟩ ⟨Nat.le_of_ble_eq_true rfl, Nat.le_of_ble_eq_true rfl⟩ (zRecv (q := (RX10, TX10, 29)) hz (zAt.mt 0 0 rfl rfl) rfl) rfl rfl (Nat.le_of_ble_eq_true rfl) dX10_move_17) (mM_finding ad iv er (-1000001) 1 (by decide) (by decide)) [0, 2] rfl (by decide) rfl rfl ?_
    exact z_iret hQ hz hr hlk dX10_move_20 (by
      have e9 : sMove wd sz nb sheet xx oo yy nn = (1, 0, wd, sz, nb) := by simp [sMove, inR, nI_clamp, c1]
      rw [e9]; exact ⟨congrArg (fun z => some (Value.int z)) rE1, _, rfl⟩)
  · obtain ⟨j, j_lo, j_hi, rfl⟩ := inR_nat 0 3 kn_0 kn_3 (by decide) (by decide) c1
    have t_j : tN (nI j) = j := nI_clamp (by omega)
    refine z_iload_n hz dX10_move_7 3 rfl rfl ?_
    refine z_callRD (st2 := [.int (zB (inR oo 0 3))]) hz zKp.mt (zk_S hz (rm := (zRm 1 0 0 30)) (As := [.int oo]) (rest := []) 1 q2356 q2357 q95 q2358 (by decide +kernel) ⟨Nat.le_of_ble_eq_true rfl, Nat.le_of_ble_eq_true rfl⟩ ⟨Nat.le_of_ble_eq_true rfl, Nat.le_of_ble_eq_true rfl⟩ rfl rfl (Nat.le_of_ble_eq_true rfl) dX10_move_8) (mM_isSheet oo) (fun _ _ _ => zP0) rfl ?_
    refine z_ifB_ne hz 21 dX10_move_11 (by decide) (fun c2 => ?_) (fun c2 => ?_)
    · obtain ⟨o, o_lo, o_hi, rfl⟩ := inR_nat 0 3 kn_0 kn_3 (by decide) (by decide) c2
      have t_o : tN (nI o) = o := nI_clamp (by omega)
      refine z_aload_n hz dX10_move_21 0 rfl rfl ?_
      refine z_get (C := RX10) (T := TX10) (N := 29) hz in_X10 (zAt.mt 0 0 rfl rfl) rfl 25 (by decide) q1954 (fun _ h9 => h9) rfl dX10_move_22 ?_
      refine z_iload_n hz dX10_move_25 1 rfl rfl ?_
      refine z_iald hz (zAt.mt 3 0 rfl rfl) rfl (by omega) (by decide) dX10_move_26 ?_
      refine z_if_eq hz 39 dX10_move_27 (by decide) (fun c3 => ?_) (fun c3 => ?_)
      · refine z_aload_n hz dX10_move_39 0 rfl rfl ?_
        refine z_ldc hz q2133 dX10_move_40 ?_
        refine z_callD (bs2 := [zO (ad 99) 10 (mFs ad iv), zI (G.2.2.1 0) (ad 0) 602 g, zI (G.2.2.1 0) (ad 4) 6 (upd er 2 (er 2 + 1)), zI (G.2.2.1 0) (ad 25) 4 wd, zI (G.2.2.1 0) (ad 26) 4 sz, zI (G.2.2.1 0) (ad 27) 160 nb, zI (G.2.2.1 0) (ad 28) 40 ca]) (st2 := [.int (-1000002)]) hz hA (zk_V hz (rm := (zRm 0 0 0 0)) (As := [.int (-1000002)]) (rest := []) 1 q2032 q2034 qs35 q95 q2035 (by decide +kernel) ⟨Nat.le_of_ble_eq_true rfl, Nat.le_of_ble_eq_true rfl⟩ ⟨Nat.le_of_ble_eq_true rfl, Nat.le_of_ble_eq_true rfl⟩ (zRecv (q := (RX10, TX10, 29)) hz (zAt.mt 0 0 rfl rfl) rfl) rfl rfl (Nat.le_of_ble_eq_true rfl) dX10_move_42) (mM_finding ad iv er (-1000002) 2 (by decide) (by decide)) [0, 2] rfl (by decide) rfl rfl ?_
        exact z_iret hQ hz hr hlk dX10_move_45 (by
          have e9 : sMove wd sz nb (nI j) xx (nI o) yy nn = (2, 0, wd, sz, nb) := by simp [sMove, inR, nI_clamp, c1, c2, c3, t_j, t_o]
          rw [e9]; exact ⟨congrArg (fun z => some (Value.int z)) rE2, _, rfl⟩)
      · refine z_aload_n hz dX10_move_30 0 rfl rfl ?_
        refine z_get (C := RX10) (T := TX10) (N := 29) hz in_X10 (zAt.mt 0 0 rfl rfl) rfl 25 (by decide) q1954 (fun _ h9 => h9) rfl dX10_move_31 ?_
        refine z_iload_n hz dX10_move_34 3 rfl rfl ?_
        refine z_iald hz (zAt.mt 3 0 rfl rfl) rfl (by omega) (by decide) dX10_move_35 ?_
        refine z_if_ne hz 46 dX10_move_36 (by decide) (fun c4 => ?_) (fun c4 => ?_)
        · refine z_aload_n hz dX10_move_46 0 rfl rfl ?_
          refine z_get (C := RX10) (T := TX10) (N := 29) hz in_X10 (zAt.mt 0 0 rfl rfl) rfl 25 (by decide) q1954 (fun _ h9 => h9) rfl dX10_move_47 ?_
          refine z_iload_n hz dX10_move_50 1 rfl rfl ?_
          refine z_iald hz (zAt.mt 3 0 rfl rfl) rfl (by omega) (by decide) dX10_move_51 ?_
          refine z_aload_n hz dX10_move_52 0 rfl rfl ?_
          refine z_get (C := RX10) (T := TX10) (N := 29) hz in_X10 (zAt.mt 0 0 rfl rfl) rfl 25 (by decide) q1954 (fun _ h9 => h9) rfl dX10_move_53 ?_
          refine z_iload_n hz dX10_move_56 3 rfl rfl ?_
          refine z_iald hz (zAt.mt 3 0 rfl rfl) rfl (by omega) (by decide) dX10_move_57 ?_
          refine z_icmp_eq hz 68 dX10_move_58 (by decide) (fun c5 => ?_) (fun c5 => ?_)
          · refine z_iload hz dX10_move_68 5 rfl ?_
            refine z_if_lt hz 117 dX10_move_70 (by decide) (fun c6 => ?_) (fun c6 => ?_)
            · refine z_aload_n hz dX10_move_117 0 rfl rfl ?_
              refine z_ldc hz q2031 dX10_move_118 ?_
              refine z_callD (bs2 := [zO (ad 99) 10 (mFs ad iv), zI (G.2.2.1 0) (ad 0) 602 g, zI (G.2.2.1 0) (ad 4) 6 (upd er 1 (er 1 + 1)), zI (G.2.2.1 0) (ad 25) 4 wd, zI (G.2.2.1 0) (ad 26) 4 sz, zI (G.2.2.1 0) (ad 27) 160 nb, zI (G.2.2.1 0) (ad 28) 40 ca]) (st2 := [.int (-1000001)]) hz hA (zk_V hz (rm := (zRm 0 0 0 0)) (As := [.int (-1000001)]) (rest := []) 1 q2032 q2034 qs35 q95 q2035 (by decide +kernel) ⟨Nat.le_of_ble_eq_true rfl, Nat.le_of_ble_eq_true rfl⟩ ⟨Nat.le_of_ble_eq_true rfl, Nat.le_of_ble_eq_true rfl⟩ (zRecv (q := (RX10, TX10, 29)) hz (zAt.mt 0 0 rfl rfl) rfl) rfl rfl (Nat.le_of_ble_eq_true rfl) dX10_move_120) (mM_finding ad iv er (-1000001) 1 (by decide) (by decide)) [0, 2] rfl (by decide) rfl rfl ?_
              exact z_iret hQ hz hr hlk dX10_move_123 (by
                have e9 : sMove wd sz nb (nI j) xx (nI o) yy nn = (1, 0, wd, sz, nb) := by simp [sMove, c1, c2, c3, c4, c5, Int32.not_le.mpr c6, t_j, t_o]
                rw [e9]; exact ⟨congrArg (fun z => some (Value.int z)) rE1, _, rfl⟩)
            · obtain ⟨q, q31, rfl⟩ := nI_of c6
              have t_q : tN (nI q) = q := nI_clamp (by omega)
              obtain ⟨z1, hz1, hsz1⟩ := hsz j (by omega)
              obtain ⟨z2, hz2, hsz2⟩ := hsz o (by omega)
              refine z_iload_n hz dX10_move_73 2 rfl rfl ?_
              refine z_if_lt hz 117 dX10_move_74 (by decide) (fun c7 => ?_) (fun c7 => ?_)
              · refine z_aload_n hz dX10_move_117 0 rfl rfl ?_
                refine z_ldc hz q2031 dX10_move_118 ?_
                refine z_callD (bs2 := [zO (ad 99) 10 (mFs ad iv), zI (G.2.2.1 0) (ad 0) 602 g, zI (G.2.2.1 0) (ad 4) 6 (upd er 1 (er 1 + 1)), zI (G.2.2.1 0) (ad 25) 4 wd, zI (G.2.2.1 0) (ad 26) 4 sz, zI (G.2.2.1 0) (ad 27) 160 nb, zI (G.2.2.1 0) (ad 28) 40 ca]) (st2 := [.int (-1000001)]) hz hA (zk_V hz (rm := (zRm 0 0 0 0)) (As := [.int (-1000001)]) (rest := []) 1 q2032 q2034 qs35 q95 q2035 (by decide +kernel) ⟨Nat.le_of_ble_eq_true rfl, Nat.le_of_ble_eq_true rfl⟩ ⟨Nat.le_of_ble_eq_true rfl, Nat.le_of_ble_eq_true rfl⟩ (zRecv (q := (RX10, TX10, 29)) hz (zAt.mt 0 0 rfl rfl) rfl) rfl rfl (Nat.le_of_ble_eq_true rfl) dX10_move_120) (mM_finding ad iv er (-1000001) 1 (by decide) (by decide)) [0, 2] rfl (by decide) rfl rfl ?_
                exact z_iret hQ hz hr hlk dX10_move_123 (by
                  have e9 : sMove wd sz nb (nI j) xx (nI o) yy (nI q) = (1, 0, wd, sz, nb) := by simp [sMove, c1, c2, c3, c4, c5, Int32.not_lt.mp c6, Int32.not_le.mpr c7, t_j, t_o, t_q]
                  rw [e9]; exact ⟨congrArg (fun z => some (Value.int z)) rE1, _, rfl⟩)
              · obtain ⟨x, x31, rfl⟩ := nI_of c7
                have t_x : tN (nI x) = x := nI_clamp (by omega)
                refine z_iload hz dX10_move_77 4 rfl ?_
                refine z_if_lt hz 117 dX10_move_79 (by decide) (fun c8 => ?_) (fun c8 => ?_)
                · refine z_aload_n hz dX10_move_117 0 rfl rfl ?_
                  refine z_ldc hz q2031 dX10_move_118 ?_
                  refine z_callD (bs2 := [zO (ad 99) 10 (mFs ad iv), zI (G.2.2.1 0) (ad 0) 602 g, zI (G.2.2.1 0) (ad 4) 6 (upd er 1 (er 1 + 1)), zI (G.2.2.1 0) (ad 25) 4 wd, zI (G.2.2.1 0) (ad 26) 4 sz, zI (G.2.2.1 0) (ad 27) 160 nb, zI (G.2.2.1 0) (ad 28) 40 ca]) (st2 := [.int (-1000001)]) hz hA (zk_V hz (rm := (zRm 0 0 0 0)) (As := [.int (-1000001)]) (rest := []) 1 q2032 q2034 qs35 q95 q2035 (by decide +kernel) ⟨Nat.le_of_ble_eq_true rfl, Nat.le_of_ble_eq_true rfl⟩ ⟨Nat.le_of_ble_eq_true rfl, Nat.le_of_ble_eq_true rfl⟩ (zRecv (q := (RX10, TX10, 29)) hz (zAt.mt 0 0 rfl rfl) rfl) rfl rfl (Nat.le_of_ble_eq_true rfl) dX10_move_120) (mM_finding ad iv er (-1000001) 1 (by decide) (by decide)) [0, 2] rfl (by decide) rfl rfl ?_
                  exact z_iret hQ hz hr hlk dX10_move_123 (by
                    have e9 : sMove wd sz nb (nI j) (nI x) (nI o) yy (nI q) = (1, 0, wd, sz, nb) := by simp [sMove, c1, c2, c3, c4, c5, Int32.not_lt.mp c6, Int32.not_lt.mp c7, Int32.not_le.mpr c8, t_j, t_o, t_q, t_x]
                    rw [e9]; exact ⟨congrArg (fun z => some (Value.int z)) rE1, _, rfl⟩)
                · obtain ⟨y, y31, rfl⟩ := nI_of c8
                  have t_y : tN (nI y) = y := nI_clamp (by omega)
                  refine z_iload_n hz dX10_move_82 2 rfl rfl ?_
                  refine z_i2l hz dX10_move_83 ?_
                  refine z_iload hz dX10_move_84 5 rfl ?_
                  refine z_i2l hz dX10_move_86 ?_
                  refine z_ladd hz dX10_move_87 ?_
                  refine z_aload_n hz dX10_move_88 0 rfl rfl ?_
                  refine z_get (C := RX10) (T := TX10) (N := 29) hz in_X10 (zAt.mt 0 0 rfl rfl) rfl 26 (by decide) q1955 (fun _ h9 => h9) rfl dX10_move_89 ?_
                  refine z_iload_n hz dX10_move_92 1 rfl rfl ?_
                  refine z_iald hz (zAt.mt 4 0 rfl rfl) rfl (by omega) (by decide) dX10_move_93 ?_
                  refine z_top hsz1 ?_
                  refine z_i2l hz dX10_move_94 ?_
                  refine z_lcmp hz dX10_move_95 ?_
                  refine z_if_gt hz 117 dX10_move_96 (by decide) (fun c9 => ?_) (fun c9 => ?_)
                  · have lg1 := (not_congr (lgc_nat (by omega) (by omega) (by omega))).mp (Int32.not_le.mpr c9)
                    refine z_aload_n hz dX10_move_117 0 rfl rfl ?_
                    refine z_ldc hz q2031 dX10_move_118 ?_
                    refine z_callD (bs2 := [zO (ad 99) 10 (mFs ad iv), zI (G.2.2.1 0) (ad 0) 602 g, zI (G.2.2.1 0) (ad 4) 6 (upd er 1 (er 1 + 1)), zI (G.2.2.1 0) (ad 25) 4 wd, zI (G.2.2.1 0) (ad 26) 4 sz, zI (G.2.2.1 0) (ad 27) 160 nb, zI (G.2.2.1 0) (ad 28) 40 ca]) (st2 := [.int (-1000001)]) hz hA (zk_V hz (rm := (zRm 0 0 0 0)) (As := [.int (-1000001)]) (rest := []) 1 q2032 q2034 qs35 q95 q2035 (by decide +kernel) ⟨Nat.le_of_ble_eq_true rfl, Nat.le_of_ble_eq_true rfl⟩ ⟨Nat.le_of_ble_eq_true rfl, Nat.le_of_ble_eq_true rfl⟩ (zRecv (q := (RX10, TX10, 29)) hz (zAt.mt 0 0 rfl rfl) rfl) rfl rfl (Nat.le_of_ble_eq_true rfl) dX10_move_120) (mM_finding ad iv er (-1000001) 1 (by decide) (by decide)) [0, 2] rfl (by decide) rfl rfl ?_
                    exact z_iret hQ hz hr hlk dX10_move_123 (by
                      have e9 : sMove wd sz nb (nI j) (nI x) (nI o) (nI y) (nI q) = (1, 0, wd, sz, nb) := by simp [sMove, c1, c2, c3, c4, c5, Int32.not_lt.mp c6, Int32.not_lt.mp c7, Int32.not_lt.mp c8, t_j, t_o, t_q, t_x, t_y, hsz1, hsz2, show tN (nI z1) = z1 from nI_clamp (by omega), show tN (nI z2) = z2 from nI_clamp (by omega), lg1]
                      rw [e9]; exact ⟨congrArg (fun z => some (Value.int z)) rE1, _, rfl⟩)
                  · have lg1 := (lgc_nat (by omega) (by omega) (by omega)).mp (Int32.not_lt.mp c9)
                    refine z_iload hz dX10_move_99 4 rfl ?_
                    refine z_i2l hz dX10_move_101 ?_
                    refine z_iload hz dX10_move_102 5 rfl ?_
                    refine z_i2l hz dX10_move_104 ?_
                    refine z_ladd hz dX10_move_105 ?_
                    refine z_aload_n hz dX10_move_106 0 rfl rfl ?_
                    refine z_get (C := RX10) (T := TX10) (N := 29) hz in_X10 (zAt.mt 0 0 rfl rfl) rfl 26 (by decide) q1955 (fun _ h9 => h9) rfl dX10_move_107 ?_
                    refine z_iload_n hz dX10_move_110 3 rfl rfl ?_
                    refine z_iald hz (zAt.mt 4 0 rfl rfl) rfl (by omega) (by decide) dX10_move_111 ?_
                    refine z_top hsz2 ?_
                    refine z_i2l hz dX10_move_112 ?_
                    refine z_lcmp hz dX10_move_113 ?_
                    refine z_if_le hz 124 dX10_move_114 (by decide) (fun c10 => ?_) (fun c10 => ?_)
                    · have lg2 := (lgc_nat (by omega) (by omega) (by omega)).mp c10
                      refine z_iconst hz 0 dX10_move_124 ki_0 ?_
                      refine z_istore (lv' := [(0, .ref (ad 99)), (1, .int (nI j)), (2, .int (nI x)), (3, .int (nI o)), (4, .int (nI y)), (5, .int (nI q)), (6, .int 0)]) hz [1, 2, 3, 4, 5, 6, 0] dX10_move_125 (by decide) rfl ?_
                      have lp_127 : ∀ (n9 : Nat) (k : Nat) (ca1 : Nat → Int32), k ≤ q → (∀ u9, u9 < k → ca1 u9 = nb (40 * j + x + u9)) → q - k < n9 → zW p G.1 e (zRm 2 0 0 60) s m args below meth c 7 Q 0 0 (zΦ G A s [zO (ad 99) 10 (mFs ad iv), zI (G.2.2.1 0) (ad 0) 602 g, zI (G.2.2.1 0) (ad 4) 6 er, zI (G.2.2.1 0) (ad 25) 4 wd, zI (G.2.2.1 0) (ad 26) 4 sz, zI (G.2.2.1 0) (ad 27) 160 nb, zI (G.2.2.1 0) (ad 28) 40 ca1]) 127 [(0, .ref (ad 99)), (1, .int (nI j)), (2, .int (nI x)), (3, .int (nI o)), (4, .int (nI y)), (5, .int (nI q)), (6, .int (nI k))] [] := by
                        intro n9
                        induction n9 with
                        | zero => intro _ _ _ _ hm; exact absurd hm (Nat.not_lt_zero _)
                        | succ n9 ih_127 =>
                          intro k ca1 hk hc hm_127
                          refine z_iload hz dX10_move_127 6 rfl ?_
                          refine z_iload hz dX10_move_129 5 rfl ?_
                          refine z_icmpN_ge hz rfl rfl (by omega) (by omega) 161 dX10_move_131 (by decide) (fun c11 => ?_) (fun c11 => ?_)
                          · refine z_iconst hz 0 dX10_move_161 ki_0 ?_
                            refine z_istore (lv' := [(0, .ref (ad 99)), (1, .int (nI j)), (2, .int (nI x)), (3, .int (nI o)), (4, .int (nI y)), (5, .int (nI q)), (6, .int 0)]) hz [1, 2, 3, 4, 5, 6, 0] dX10_move_162 (by decide) rfl ?_
                            have lp_164 : ∀ (n9 : Nat) (k2 : Nat) (nb2 : Nat → Int32), k2 ≤ q → nb2 = mvF nb (40 * j + x) (40 * o + y) k2 → q - k2 < n9 → zW p G.1 e (zRm 2 0 0 60) s m args below meth c 7 Q 0 0 (zΦ G A s [zO (ad 99) 10 (mFs ad iv), zI (G.2.2.1 0) (ad 0) 602 g, zI (G.2.2.1 0) (ad 4) 6 er, zI (G.2.2.1 0) (ad 25) 4 wd, zI (G.2.2.1 0) (ad 26) 4 sz, zI (G.2.2.1 0) (ad 27) 160 nb2, zI (G.2.2.1 0) (ad 28) 40 ca1]) 164 [(0, .ref (ad 99)), (1, .int (nI j)), (2, .int (nI x)), (3, .int (nI o)), (4, .int (nI y)), (5, .int (nI q)), (6, .int (nI k2))] [] := by
                              intro n9
                              induction n9 with
                              | zero => intro _ _ _ _ hm; exact absurd hm (Nat.not_lt_zero _)
                              | succ n9 ih_164 =>
                                intro k2 nb2 hk2 hn hm_164
                                refine z_iload hz dX10_move_164 6 rfl ?_
                                refine z_iload hz dX10_move_166 5 rfl ?_
                                refine z_icmpN_ge hz rfl rfl (by omega) (by omega) 199 dX10_move_168 (by decide) (fun c12 => ?_) (fun c12 => ?_)
                                · refine z_iload hz dX10_move_199 5 rfl ?_
                                  exact z_iret hQ hz hr hlk dX10_move_201 (by
                                    have e9 : sMove wd sz nb (nI j) (nI x) (nI o) (nI y) (nI q) = (0, nI q, wd, sz, nb2) := by simp [sMove, c1, c2, c3, c4, c5, Int32.not_lt.mp c6, Int32.not_lt.mp c7, Int32.not_lt.mp c8, t_j, t_o, t_q, t_x, t_y, hsz1, hsz2, show tN (nI z1) = z1 from nI_clamp (by omega), show tN (nI z2) = z2 from nI_clamp (by omega), lg1, lg2, hn, show k2 = q by omega]
                                    rw [e9]; exact ⟨congrArg (fun z => some (Value.int z)) rOf_0.symm, _, rfl⟩)
                                · refine z_aload_n hz dX10_move_171 0 rfl rfl ?_
                                  refine z_get (C := RX10) (T := TX10) (N := 29) hz in_X10 (zAt.mt 0 0 rfl rfl) rfl 27 (by decide) q1956 (fun _ h9 => h9) rfl dX10_move_172 ?_
                                  refine z_bipush hz 40 dX10_move_175 kb_40 ?_
                                  refine z_iload_n hz dX10_move_177 3 rfl rfl ?_
                                  refine z_imulN hz kn_40 rfl dX10_move_178 ?_
                                  refine z_iload hz dX10_move_179 4 rfl ?_
                                  refine z_iaddN hz rfl rfl dX10_move_181 ?_
                                  refine z_iload hz dX10_move_182 6 rfl ?_
                                  refine z_iaddN hz rfl rfl dX10_move_184 ?_
                                  refine z_aload_n hz dX10_move_185 0 rfl rfl ?_
                                  refine z_get (C := RX10) (T := TX10) (N := 29) hz in_X10 (zAt.mt 0 0 rfl rfl) rfl 28 (by decide) q1957 (fun _ h9 => h9) rfl dX10_move_186 ?_
                                  refine z_iload hz dX10_move_189 6 rfl ?_
                                  refine z_iald hz (zAt.mt 6 0 rfl rfl) rfl (by omega) (by decide) dX10_move_191 ?_
                                  refine z_iast hz 5 0 rfl rfl rfl (by omega) (by decide) dX10_move_192 ?_
                                  refine z_bs (bs2 := [zO (ad 99) 10 (mFs ad iv), zI (G.2.2.1 0) (ad 0) 602 g, zI (G.2.2.1 0) (ad 4) 6 er, zI (G.2.2.1 0) (ad 25) 4 wd, zI (G.2.2.1 0) (ad 26) 4 sz, zI (G.2.2.1 0) (ad 27) 160 (upd nb2 (((40 * o) + y) + k2) (ca1 k2)), zI (G.2.2.1 0) (ad 28) 40 ca1]) rfl ?_
                                  refine z_iinc (lv' := [(0, .ref (ad 99)), (1, .int (nI j)), (2, .int (nI x)), (3, .int (nI o)), (4, .int (nI y)), (5, .int (nI q)), (6, .int (nI (k2 + 1)))]) hz (nI (k2 + 1)) 6 [1, 2, 3, 4, 5, 6, 0] dX10_move_193 rfl (nI_1 _) (by decide) rfl ?_
                                  refine z_goto hz 164 dX10_move_196 (by decide) ?_
                                  exact ih_164 (k2 + 1) (upd nb2 (((40 * o) + y) + k2) (ca1 k2)) (by omega) (by simp only [mvF]; rw [← hn, hc k2 (by omega)]) (by omega)
                            exact lp_164 ((q - 0) + 1) 0 nb (Nat.zero_le _) rfl (Nat.lt_succ_self _)
                          · refine z_aload_n hz dX10_move_134 0 rfl rfl ?_
                            refine z_get (C := RX10) (T := TX10) (N := 29) hz in_X10 (zAt.mt 0 0 rfl rfl) rfl 28 (by decide) q1957 (fun _ h9 => h9) rfl dX10_move_135 ?_
                            refine z_iload hz dX10_move_138 6 rfl ?_
                            refine z_aload_n hz dX10_move_140 0 rfl rfl ?_
                            refine z_get (C := RX10) (T := TX10) (N := 29) hz in_X10 (zAt.mt 0 0 rfl rfl) rfl 27 (by decide) q1956 (fun _ h9 => h9) rfl dX10_move_141 ?_
                            refine z_bipush hz 40 dX10_move_144 kb_40 ?_
                            refine z_iload_n hz dX10_move_146 1 rfl rfl ?_
                            refine z_imulN hz kn_40 rfl dX10_move_147 ?_
                            refine z_iload_n hz dX10_move_148 2 rfl rfl ?_
                            refine z_iaddN hz rfl rfl dX10_move_149 ?_
                            refine z_iload hz dX10_move_150 6 rfl ?_
                            refine z_iaddN hz rfl rfl dX10_move_152 ?_
                            refine z_iald hz (zAt.mt 5 0 rfl rfl) rfl (by omega) (by decide) dX10_move_153 ?_
                            refine z_iast hz 6 0 rfl rfl rfl (by omega) (by decide) dX10_move_154 ?_
                            refine z_bs (bs2 := [zO (ad 99) 10 (mFs ad iv), zI (G.2.2.1 0) (ad 0) 602 g, zI (G.2.2.1 0) (ad 4) 6 er, zI (G.2.2.1 0) (ad 25) 4 wd, zI (G.2.2.1 0) (ad 26) 4 sz, zI (G.2.2.1 0) (ad 27) 160 nb, zI (G.2.2.1 0) (ad 28) 40 (upd ca1 k (nb (((40 * j) + x) + k)))]) rfl ?_
                            refine z_iinc (lv' := [(0, .ref (ad 99)), (1, .int (nI j)), (2, .int (nI x)), (3, .int (nI o)), (4, .int (nI y)), (5, .int (nI q)), (6, .int (nI (k + 1)))]) hz (nI (k + 1)) 6 [1, 2, 3, 4, 5, 6, 0] dX10_move_155 rfl (nI_1 _) (by decide) rfl ?_
                            refine z_goto hz 127 dX10_move_158 (by decide) ?_
                            exact ih_127 (k + 1) (upd ca1 k (nb (((40 * j) + x) + k))) (by omega) (upd_allg (F := fun u9 => nb (40 * j + x + u9)) hc) (by omega)
                      exact lp_127 ((q - 0) + 1) 0 ca (Nat.zero_le _) (fun _ h9 => absurd h9 (Nat.not_lt_zero _)) (Nat.lt_succ_self _)
                    · have lg2 := (not_congr (lgc_nat (by omega) (by omega) (by omega))).mp c10
                      refine z_aload_n hz dX10_move_117 0 rfl rfl ?_
                      refine z_ldc hz q2031 dX10_move_118 ?_
                      refine z_callD (bs2 := [zO (ad 99) 10 (mFs ad iv), zI (G.2.2.1 0) (ad 0) 602 g, zI (G.2.2.1 0) (ad 4) 6 (upd er 1 (er 1 + 1)), zI (G.2.2.1 0) (ad 25) 4 wd, zI (G.2.2.1 0) (ad 26) 4 sz, zI (G.2.2.1 0) (ad 27) 160 nb, zI (G.2.2.1 0) (ad 28) 40 ca]) (st2 := [.int (-1000001)]) hz hA (zk_V hz (rm := (zRm 0 0 0 0)) (As := [.int (-1000001)]) (rest := []) 1 q2032 q2034 qs35 q95 q2035 (by decide +kernel) ⟨Nat.le_of_ble_eq_true rfl, Nat.le_of_ble_eq_true rfl⟩ ⟨Nat.le_of_ble_eq_true rfl, Nat.le_of_ble_eq_true rfl⟩ (zRecv (q := (RX10, TX10, 29)) hz (zAt.mt 0 0 rfl rfl) rfl) rfl rfl (Nat.le_of_ble_eq_true rfl) dX10_move_120) (mM_finding ad iv er (-1000001) 1 (by decide) (by decide)) [0, 2] rfl (by decide) rfl rfl ?_
                      exact z_iret hQ hz hr hlk dX10_move_123 (by
                        have e9 : sMove wd sz nb (nI j) (nI x) (nI o) (nI y) (nI q) = (1, 0, wd, sz, nb) := by simp [sMove, c1, c2, c3, c4, c5, Int32.not_lt.mp c6, Int32.not_lt.mp c7, Int32.not_lt.mp c8, t_j, t_o, t_q, t_x, t_y, hsz1, hsz2, show tN (nI z1) = z1 from nI_clamp (by omega), show tN (nI z2) = z2 from nI_clamp (by omega), lg1, lg2]
                        rw [e9]; exact ⟨congrArg (fun z => some (Value.int z)) rE1, _, rfl⟩)
          · refine z_aload_n hz dX10_move_61 0 rfl rfl ?_
            refine z_ldc hz q2232 dX10_move_62 ?_
            refine z_callD (bs2 := [zO (ad 99) 10 (mFs ad iv), zI (G.2.2.1 0) (ad 0) 602 g, zI (G.2.2.1 0) (ad 4) 6 (upd er 5 (er 5 + 1)), zI (G.2.2.1 0) (ad 25) 4 wd, zI (G.2.2.1 0) (ad 26) 4 sz, zI (G.2.2.1 0) (ad 27) 160 nb, zI (G.2.2.1 0) (ad 28) 40 ca]) (st2 := [.int (-1000005)]) hz hA (zk_V hz (rm := (zRm 0 0 0 0)) (As := [.int (-1000005)]) (rest := []) 1 q2032 q2034 qs35 q95 q2035 (by decide +kernel) ⟨Nat.le_of_ble_eq_true rfl, Nat.le_of_ble_eq_true rfl⟩ ⟨Nat.le_of_ble_eq_true rfl, Nat.le_of_ble_eq_true rfl⟩ (zRecv (q := (RX10, TX10, 29)) hz (zAt.mt 0 0 rfl rfl) rfl) rfl rfl (Nat.le_of_ble_eq_true rfl) dX10_move_64) (mM_finding ad iv er (-1000005) 5 (by decide) (by decide)) [0, 2] rfl (by decide) rfl rfl ?_
            exact z_iret hQ hz hr hlk dX10_move_67 (by
              have e9 : sMove wd sz nb (nI j) xx (nI o) yy nn = (5, 0, wd, sz, nb) := by simp [sMove, inR, nI_clamp, c1, c2, c3, c4, c5, t_j, t_o]
              rw [e9]; exact ⟨congrArg (fun z => some (Value.int z)) rE5, _, rfl⟩)
        · refine z_aload_n hz dX10_move_39 0 rfl rfl ?_
          refine z_ldc hz q2133 dX10_move_40 ?_
          refine z_callD (bs2 := [zO (ad 99) 10 (mFs ad iv), zI (G.2.2.1 0) (ad 0) 602 g, zI (G.2.2.1 0) (ad 4) 6 (upd er 2 (er 2 + 1)), zI (G.2.2.1 0) (ad 25) 4 wd, zI (G.2.2.1 0) (ad 26) 4 sz, zI (G.2.2.1 0) (ad 27) 160 nb, zI (G.2.2.1 0) (ad 28) 40 ca]) (st2 := [.int (-1000002)]) hz hA (zk_V hz (rm := (zRm 0 0 0 0)) (As := [.int (-1000002)]) (rest := []) 1 q2032 q2034 qs35 q95 q2035 (by decide +kernel) ⟨Nat.le_of_ble_eq_true rfl, Nat.le_of_ble_eq_true rfl⟩ ⟨Nat.le_of_ble_eq_true rfl, Nat.le_of_ble_eq_true rfl⟩ (zRecv (q := (RX10, TX10, 29)) hz (zAt.mt 0 0 rfl rfl) rfl) rfl rfl (Nat.le_of_ble_eq_true rfl) dX10_move_42) (mM_finding ad iv er (-1000002) 2 (by decide) (by decide)) [0, 2] rfl (by decide) rfl rfl ?_
          exact z_iret hQ hz hr hlk dX10_move_45 (by
            have e9 : sMove wd sz nb (nI j) xx (nI o) yy nn = (2, 0, wd, sz, nb) := by simp [sMove, inR, nI_clamp, c1, c2, c3, c4, t_j, t_o]
            rw [e9]; exact ⟨congrArg (fun z => some (Value.int z)) rE2, _, rfl⟩)
    · refine z_aload_n hz dX10_move_14 0 rfl rfl ?_
      refine z_ldc hz q2031 dX10_move_15 ?_
      refine z_callD (bs2 := [zO (ad 99) 10 (mFs ad iv), zI (G.2.2.1 0) (ad 0) 602 g, zI (G.2.2.1 0) (ad 4) 6 (upd er 1 (er 1 + 1)), zI (G.2.2.1 0) (ad 25) 4 wd, zI (G.2.2.1 0) (ad 26) 4 sz, zI (G.2.2.1 0) (ad 27) 160 nb, zI (G.2.2.1 0) (ad 28) 40 ca]) (st2 := [.int (-1000001)]) hz hA (zk_V hz (rm := (zRm 0 0 0 0)) (As := [.int (-1000001)]) (rest := []) 1 q2032 q2034 qs35 q95 q2035 (by decide +kernel) ⟨Nat.le_of_ble_eq_true rfl, Nat.le_of_ble_eq_true rfl⟩ ⟨Nat.le_of_ble_eq_true rfl, Nat.le_of_ble_eq_true rfl⟩ (zRecv (q := (RX10, TX10, 29)) hz (zAt.mt 0 0 rfl rfl) rfl) rfl rfl (Nat.le_of_ble_eq_true rfl) dX10_move_17) (mM_finding ad iv er (-1000001) 1 (by decide) (by decide)) [0, 2] rfl (by decide) rfl rfl ?_
      exact z_iret hQ hz hr hlk dX10_move_20 (by
        have e9 : sMove wd sz nb (nI j) xx oo yy nn = (1, 0, wd, sz, nb) := by simp [sMove, inR, nI_clamp, c1, c2, t_j]
        rw [e9]; exact ⟨congrArg (fun z => some (Value.int z)) rE1, _, rfl⟩)
set_option maxHeartbeats 400000 in
theorem mM_trace {G : zG} (ad : Nat → Nat) (iv g er : Nat → Int32) (tr : Nat → Int32) (x : Int32) (tc : Nat) (htc : iv 23 = nI tc) (h40 : tc ≤ 40) : zMet G yX10_trace (ws_ yX10_trace cX10_trace 2 (some .int)) (zRm 2 0 0 60) [.ref (ad 99), .int x] [zO (ad 99) 10 (mFs ad iv), zI (G.2.2.1 0) (ad 0) 602 g, zI (G.2.2.1 0) (ad 4) 6 er, zI (G.2.2.1 0) (ad 22) 40 tr] (fun v9 b9 => v9 = some (.int (rOf (sTrace g tr (iv 23) x))) ∧ b9 = [zO (ad 99) 10 (mFs ad iv), zI (G.2.2.1 0) (ad 0) 602 ((sTrace g tr (iv 23) x).2.2), zI (G.2.2.1 0) (ad 4) 6 (eOf er (sTrace g tr (iv 23) x)), zI (G.2.2.1 0) (ad 22) 40 tr]) := by
  refine zMet.of (by decide +kernel) (Nat.le_of_ble_eq_true rfl) ?_
  intro p e s m args below meth c A hz hA hr hlk hnm9 Q hQ
  refine z_lv (lv' := [(0, .ref (ad 99)), (1, .int x)]) [0, 1] rfl ?_
  refine z_iload_n hz dX10_trace_0 1 rfl rfl ?_
  refine z_iconst hz 0 dX10_trace_1 ki_0 ?_
  refine z_aload_n hz dX10_trace_2 0 rfl rfl ?_
  refine z_get (C := RX10) (T := TX10) (N := 29) hz in_X10 (zAt.mt 0 0 rfl rfl) rfl 23 (by decide) q1952 (fun _ h9 => h9) rfl dX10_trace_3 ?_
  refine z_iconst hz 1 dX10_trace_6 ki_1 ?_
  refine z_isub hz dX10_trace_7 ?_
  refine z_callRD (st2 := [.int (zB (inR x 0 ((iv 23) - 1)))]) hz zKp.mt (zk_S hz (rm := (zRm 0 0 0 0)) (As := [.int x, .int 0, .int ((iv 23) - 1)]) (rest := []) 3 q2023 q2024 q95 q2025 (by decide +kernel) ⟨Nat.le_of_ble_eq_true rfl, Nat.le_of_ble_eq_true rfl⟩ ⟨Nat.le_of_ble_eq_true rfl, Nat.le_of_ble_eq_true rfl⟩ rfl rfl (Nat.le_of_ble_eq_true rfl) dX10_trace_8) (mM_within x 0 ((iv 23) - 1)) (fun _ _ _ => zP0) rfl ?_
  refine z_ifB_eq hz 23 dX10_trace_11 (by decide) (fun c1 => ?_) (fun c1 => ?_)
  · refine z_aload_n hz dX10_trace_23 0 rfl rfl ?_
    refine z_ldc hz q2133 dX10_trace_24 ?_
    refine z_callD (bs2 := [zO (ad 99) 10 (mFs ad iv), zI (G.2.2.1 0) (ad 0) 602 g, zI (G.2.2.1 0) (ad 4) 6 (upd er 2 (er 2 + 1)), zI (G.2.2.1 0) (ad 22) 40 tr]) (st2 := [.int (-1000002)]) hz hA (zk_V hz (rm := (zRm 0 0 0 0)) (As := [.int (-1000002)]) (rest := []) 1 q2032 q2034 qs35 q95 q2035 (by decide +kernel) ⟨Nat.le_of_ble_eq_true rfl, Nat.le_of_ble_eq_true rfl⟩ ⟨Nat.le_of_ble_eq_true rfl, Nat.le_of_ble_eq_true rfl⟩ (zRecv (q := (RX10, TX10, 29)) hz (zAt.mt 0 0 rfl rfl) rfl) rfl rfl (Nat.le_of_ble_eq_true rfl) dX10_trace_26) (mM_finding ad iv er (-1000002) 2 (by decide) (by decide)) [0, 2] rfl (by decide) rfl rfl ?_
    exact z_iret hQ hz hr hlk dX10_trace_29 (by
      have e9 : sTrace g tr (iv 23) x = (2, 0, g) := by simp [sTrace, inR, nI_clamp, c1]
      rw [e9]; exact ⟨congrArg (fun z => some (Value.int z)) rE2, rfl⟩)
  · obtain ⟨q, hqk, rfl⟩ := is_nat (g := iv) (k := 23) htc (by omega) c1
    have t_q : tN (nI q) = q := nI_clamp (by omega)
    refine z_aload_n hz dX10_trace_14 0 rfl rfl ?_
    refine z_get (C := RX10) (T := TX10) (N := 29) hz in_X10 (zAt.mt 0 0 rfl rfl) rfl 22 (by decide) q1951 (fun _ h9 => h9) rfl dX10_trace_15 ?_
    refine z_iload_n hz dX10_trace_18 1 rfl rfl ?_
    refine z_iald hz (zAt.mt 3 0 rfl rfl) rfl (by omega) (by decide) dX10_trace_19 ?_
    refine z_goto hz 29 dX10_trace_20 (by decide) ?_
    exact z_iret hQ hz hr hlk dX10_trace_29 (by
      have e9 : sTrace g tr (iv 23) (nI q) = (0, tr q, g) := by simp [sTrace, inR, nI_clamp, c1, t_q]
      rw [e9]; exact ⟨congrArg (fun z => some (Value.int z)) rOf_0.symm, rfl⟩)
