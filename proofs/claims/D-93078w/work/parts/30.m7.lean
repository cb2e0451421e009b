set_option maxRecDepth 100000
set_option maxHeartbeats 1000000 in
theorem mM_stop {G : zG} (ad : Nat → Nat) (iv g er : Nat → Int32) (pl : Nat → Int32) (d : Int32) (mm : Int32) (h : Int32) (htx : ∀ u, u < 4 → txOk g u) : zMet G yX10_stop (ws_ yX10_stop cX10_stop 5 (some .int)) (zRm 3 0 0 110) [.ref (ad 99), .int d, .int mm, .int h] [zO (ad 99) 10 (mFs ad iv), zI (G.2.2.1 0) (ad 0) 602 g, zI (G.2.2.1 0) (ad 4) 6 er, zI (G.2.2.1 0) (ad 12) 60 pl] (fun v9 b9 => v9 = some (.int (rOf (sStop g d mm h))) ∧ ∃ pl9 : Nat → Int32, b9 = [zO (ad 99) 10 (mFs ad iv), zI (G.2.2.1 0) (ad 0) 602 ((sStop g d mm h).2.2), zI (G.2.2.1 0) (ad 4) 6 (eOf er (sStop g d mm h)), zI (G.2.2.1 0) (ad 12) 60 pl9]) := by
  refine zMet.of (by decide +kernel) (Nat.le_of_ble_eq_true rfl) ?_
  intro p e s m args below meth c A hz hA hr hlk hnm9 Q hQ
  refine z_lv (lv' := [(0, .ref (ad 99)), (1, .int d), (2, .int mm), (3, .int h)]) [0, 1, 2, 3] rfl ?_
  refine z_iload_n hz dX10_stop_0 1 rfl rfl ?_
  refine z_iconst hz 1 dX10_stop_1 ki_1 ?_
  refine z_sipush hz 300 dX10_stop_2 ks_300 ?_
  refine z_callRD (st2 := [.int (zB (inR d 1 300))]) hz zKp.mt (zk_S hz (rm := (zRm 0 0 0 0)) (As := [.int d, .int 1, .int 300]) (rest := []) 3 q2023 q2024 q95 q2025 (by decide +kernel) ⟨Nat.le_of_ble_eq_true rfl, Nat.le_of_ble_eq_true rfl⟩ ⟨Nat.le_of_ble_eq_true rfl, Nat.le_of_ble_eq_true rfl⟩ rfl rfl (Nat.le_of_ble_eq_true rfl) dX10_stop_5) (mM_within d 1 300) (fun _ _ _ => zP0) rfl ?_
  refine z_ifB_eq hz 33 dX10_stop_8 (by decide) (fun c1 => ?_) (fun c1 => ?_)
  · refine z_aload_n hz dX10_stop_33 0 rfl rfl ?_
    refine z_ldc hz q2031 dX10_stop_34 ?_
    refine z_callD (bs2 := [zO (ad 99) 10 (mFs ad iv), zI (G.2.2.1 0) (ad 0) 602 g, zI (G.2.2.1 0) (ad 4) 6 (upd er 1 (er 1 + 1)), zI (G.2.2.1 0) (ad 12) 60 pl]) (st2 := [.int (-1000001)]) hz hA (zk_V hz (rm := (zRm 0 0 0 0)) (As := [.int (-1000001)]) (rest := []) 1 q2032 q2034 qs35 q95 q2035 (by decide +kernel) ⟨Nat.le_of_ble_eq_true rfl, Nat.le_of_ble_eq_true rfl⟩ ⟨Nat.le_of_ble_eq_true rfl, Nat.le_of_ble_eq_true rfl⟩ (zRecv (q := (RX10, TX10, 29)) hz (zAt.mt 0 0 rfl rfl) rfl) rfl rfl (Nat.le_of_ble_eq_true rfl) dX10_stop_36) (mM_finding ad iv er (-1000001) 1 (by decide) (by decide)) [0, 2] rfl (by decide) rfl rfl ?_
    exact z_iret hQ hz hr hlk dX10_stop_39 (by
      have e9 : sStop g d mm h = (1, 0, g) := by simp [sStop, inR, nI_clamp, c1]
      rw [e9]; exact ⟨congrArg (fun z => some (Value.int z)) rE1, _, rfl⟩)
  · refine z_iload_n hz dX10_stop_11 2 rfl rfl ?_
    refine z_iconst hz 0 dX10_stop_12 ki_0 ?_
    refine z_sipush hz 2400 dX10_stop_13 ks_2400 ?_
    refine z_callRD (st2 := [.int (zB (inR mm 0 2400))]) hz zKp.mt (zk_S hz (rm := (zRm 0 0 0 0)) (As := [.int mm, .int 0, .int 2400]) (rest := []) 3 q2023 q2024 q95 q2025 (by decide +kernel) ⟨Nat.le_of_ble_eq_true rfl, Nat.le_of_ble_eq_true rfl⟩ ⟨Nat.le_of_ble_eq_true rfl, Nat.le_of_ble_eq_true rfl⟩ rfl rfl (Nat.le_of_ble_eq_true rfl) dX10_stop_16) (mM_within mm 0 2400) (fun _ _ _ => zP0) rfl ?_
    refine z_ifB_eq hz 33 dX10_stop_19 (by decide) (fun c2 => ?_) (fun c2 => ?_)
    · refine z_aload_n hz dX10_stop_33 0 rfl rfl ?_
      refine z_ldc hz q2031 dX10_stop_34 ?_
      refine z_callD (bs2 := [zO (ad 99) 10 (mFs ad iv), zI (G.2.2.1 0) (ad 0) 602 g, zI (G.2.2.1 0) (ad 4) 6 (upd er 1 (er 1 + 1)), zI (G.2.2.1 0) (ad 12) 60 pl]) (st2 := [.int (-1000001)]) hz hA (zk_V hz (rm := (zRm 0 0 0 0)) (As := [.int (-1000001)]) (rest := []) 1 q2032 q2034 qs35 q95 q2035 (by decide +kernel) ⟨Nat.le_of_ble_eq_true rfl, Nat.le_of_ble_eq_true rfl⟩ ⟨Nat.le_of_ble_eq_true rfl, Nat.le_of_ble_eq_true rfl⟩ (zRecv (q := (RX10, TX10, 29)) hz (zAt.mt 0 0 rfl rfl) rfl) rfl rfl (Nat.le_of_ble_eq_true rfl) dX10_stop_36) (mM_finding ad iv er (-1000001) 1 (by decide) (by decide)) [0, 2] rfl (by decide) rfl rfl ?_
      exact z_iret hQ hz hr hlk dX10_stop_39 (by
        have e9 : sStop g d mm h = (1, 0, g) := by simp [sStop, inR, nI_clamp, c1, c2]
        rw [e9]; exact ⟨congrArg (fun z => some (Value.int z)) rE1, _, rfl⟩)
    · refine z_iload_n hz dX10_stop_22 3 rfl rfl ?_
      refine z_iconst hz 0 dX10_stop_23 ki_0 ?_
      refine z_sipush hz 1000 dX10_stop_24 ks_1000 ?_
      refine z_callRD (st2 := [.int (zB (inR h 0 1000))]) hz zKp.mt (zk_S hz (rm := (zRm 0 0 0 0)) (As := [.int h, .int 0, .int 1000]) (rest := []) 3 q2023 q2024 q95 q2025 (by decide +kernel) ⟨Nat.le_of_ble_eq_true rfl, Nat.le_of_ble_eq_true rfl⟩ ⟨Nat.le_of_ble_eq_true rfl, Nat.le_of_ble_eq_true rfl⟩ rfl rfl (Nat.le_of_ble_eq_true rfl) dX10_stop_27) (mM_within h 0 1000) (fun _ _ _ => zP0) rfl ?_
      refine z_ifB_ne hz 40 dX10_stop_30 (by decide) (fun c3 => ?_) (fun c3 => ?_)
      · refine z_iconst hz 0 dX10_stop_40 ki_0 ?_
        refine z_istore (lv' := [(0, .ref (ad 99)), (1, .int d), (2, .int mm), (3, .int h), (4, .int 0)]) hz [1, 2, 3, 4, 0] dX10_stop_41 (by decide) rfl ?_
        have lp_43 : ∀ (n9 : Nat) (k : Nat) (pl2 : Nat → Int32), k ≤ 601 → stopF g d mm h 601 0 = stopF g d mm h (601 - k) k → 601 - k < n9 → zW p G.1 e (zRm 3 0 0 110) s m args below meth c 5 Q 0 0 (zΦ G A s [zO (ad 99) 10 (mFs ad iv), zI (G.2.2.1 0) (ad 0) 602 g, zI (G.2.2.1 0) (ad 4) 6 er, zI (G.2.2.1 0) (ad 12) 60 pl2]) 43 [(0, .ref (ad 99)), (1, .int d), (2, .int mm), (3, .int h), (4, .int (nI k))] [] := by
          intro n9
          induction n9 with
          | zero => intro _ _ _ _ hm; exact absurd hm (Nat.not_lt_zero _)
          | succ n9 ih_43 =>
            intro k pl2 hk hk2 hm_43
            refine z_iload hz dX10_stop_43 4 rfl ?_
            refine z_sipush hz 600 dX10_stop_45 ks_600 ?_
            refine z_icmpN_gt hz rfl kn_600 (by omega) (by decide) 73 dX10_stop_48 (by decide) (fun c4 => ?_) (fun c4 => ?_)
            · refine z_aload_n hz dX10_stop_73 0 rfl rfl ?_
              refine z_ldc hz q2133 dX10_stop_74 ?_
              refine z_callD (bs2 := [zO (ad 99) 10 (mFs ad iv), zI (G.2.2.1 0) (ad 0) 602 g, zI (G.2.2.1 0) (ad 4) 6 (upd er 2 (er 2 + 1)), zI (G.2.2.1 0) (ad 12) 60 pl2]) (st2 := [.int (-1000002)]) hz hA (zk_V hz (rm := (zRm 0 0 0 0)) (As := [.int (-1000002)]) (rest := []) 1 q2032 q2034 qs35 q95 q2035 (by decide +kernel) ⟨Nat.le_of_ble_eq_true rfl, Nat.le_of_ble_eq_true rfl⟩ ⟨Nat.le_of_ble_eq_true rfl, Nat.le_of_ble_eq_true rfl⟩ (zRecv (q := (RX10, TX10, 29)) hz (zAt.mt 0 0 rfl rfl) rfl) rfl rfl (Nat.le_of_ble_eq_true rfl) dX10_stop_76) (mM_finding ad iv er (-1000002) 2 (by decide) (by decide)) [0, 2] rfl (by decide) rfl rfl ?_
              exact z_iret hQ hz hr hlk dX10_stop_79 (by
                have e9 : sStop g d mm h = (2, 0, g) := by have hX : stopF g d mm h 601 0 = -1000002 := (by rw [hk2, show 601 - k = 0 by omega]; rfl); simp only [sStop]; rw [if_pos ⟨c1, c2, c3⟩]; rw [if_pos hX]
                rw [e9]; exact ⟨congrArg (fun z => some (Value.int z)) rE2, _, rfl⟩)
            · refine z_aload_n hz dX10_stop_51 0 rfl rfl ?_
              refine z_iconst hz 1 dX10_stop_52 ki_1 ?_
              refine z_iload_n hz dX10_stop_53 1 rfl rfl ?_
              refine z_iload_n hz dX10_stop_54 2 rfl rfl ?_
              refine z_iload hz dX10_stop_55 4 rfl ?_
              refine z_callE (bs2 := fun f5 => [zO (ad 99) 10 (mFs ad iv), zI (G.2.2.1 0) (ad 0) 602 g, zI (G.2.2.1 0) (ad 4) 6 er, zI (G.2.2.1 0) (ad 12) 60 f5]) (st2 := [.int (givenF g 1 d mm (nI k))]) hz hA (zk_V hz (rm := (zRm 2 0 0 80)) (As := [.int 1, .int d, .int mm, .int (nI k)]) (rest := []) 4 q2098 q2100 qs41 q95 q2101 (by decide +kernel) ⟨Nat.le_of_ble_eq_true rfl, Nat.le_of_ble_eq_true rfl⟩ ⟨Nat.le_of_ble_eq_true rfl, Nat.le_of_ble_eq_true rfl⟩ (zRecv (q := (RX10, TX10, 29)) hz (zAt.mt 0 0 rfl rfl) rfl) rfl rfl (Nat.le_of_ble_eq_true rfl) dX10_stop_57) (mM_given ad iv g pl2 1 (by decide) d mm (nI k) (htx 1 (by decide))) [0, 1, 3] rfl (by decide) (fun _ => rfl) rfl (fun f5 => ?_)
              refine z_iload_n hz dX10_stop_60 3 rfl rfl ?_
              refine z_icmp_gt hz 67 dX10_stop_61 (by decide) (fun c6 => ?_) (fun c6 => ?_)
              · refine z_iinc (lv' := [(0, .ref (ad 99)), (1, .int d), (2, .int mm), (3, .int h), (4, .int (nI (k + 1)))]) hz (nI (k + 1)) 4 [1, 2, 3, 4, 0] dX10_stop_67 rfl (nI_1 _) (by decide) rfl ?_
                refine z_goto hz 43 dX10_stop_70 (by decide) ?_
                exact ih_43 (k + 1) f5 (by omega) (by rw [hk2, show 601 - k = (601 - (k + 1)) + 1 by omega]; simp only [stopF]; rw [if_neg (Int32.not_le.mpr c6)]) (by omega)
              · refine z_iload hz dX10_stop_64 4 rfl ?_
                exact z_iret hQ hz hr hlk dX10_stop_66 (by
                  have e9 : sStop g d mm h = (0, nI k, g) := by have hX : stopF g d mm h 601 0 = nI k := (by rw [hk2, show 601 - k = (601 - (k + 1)) + 1 by omega]; simp only [stopF]; rw [if_pos (Int32.not_lt.mp c6)]); simp only [sStop]; rw [if_pos ⟨c1, c2, c3⟩]; rw [hX, if_neg (fun h9 => absurd (nI_pos (n := k) (by omega)) (by rw [h9]; decide))]
                  rw [e9]; exact ⟨congrArg (fun z => some (Value.int z)) rOf_0.symm, _, rfl⟩)
        exact lp_43 ((601 - 0) + 1) 0 pl (Nat.zero_le _) rfl (Nat.lt_succ_self _)
      · refine z_aload_n hz dX10_stop_33 0 rfl rfl ?_
        refine z_ldc hz q2031 dX10_stop_34 ?_
        refine z_callD (bs2 := [zO (ad 99) 10 (mFs ad iv), zI (G.2.2.1 0) (ad 0) 602 g, zI (G.2.2.1 0) (ad 4) 6 (upd er 1 (er 1 + 1)), zI (G.2.2.1 0) (ad 12) 60 pl]) (st2 := [.int (-1000001)]) hz hA (zk_V hz (rm := (zRm 0 0 0 0)) (As := [.int (-1000001)]) (rest := []) 1 q2032 q2034 qs35 q95 q2035 (by decide +kernel) ⟨Nat.le_of_ble_eq_true rfl, Nat.le_of_ble_eq_true rfl⟩ ⟨Nat.le_of_ble_eq_true rfl, Nat.le_of_ble_eq_true rfl⟩ (zRecv (q := (RX10, TX10, 29)) hz (zAt.mt 0 0 rfl rfl) rfl) rfl rfl (Nat.le_of_ble_eq_true rfl) dX10_stop_36) (mM_finding ad iv er (-1000001) 1 (by decide) (by decide)) [0, 2] rfl (by decide) rfl rfl ?_
        exact z_iret hQ hz hr hlk dX10_stop_39 (by
          have e9 : sStop g d mm h = (1, 0, g) := by simp [sStop, inR, nI_clamp, c1, c2, c3]
          rw [e9]; exact ⟨congrArg (fun z => some (Value.int z)) rE1, _, rfl⟩)
set_option maxHeartbeats 400000 in
theorem mM_drawn {G : zG} (ad : Nat → Nat) (iv g : Nat → Int32) (blw : Int32) (hb0 : blw ≠ 0) : zMet G yX10_drawn (ws_ yX10_drawn cX10_drawn 2 (some .int)) (zRm 0 0 0 0) [.ref (ad 99), .int blw] [zO (ad 99) 10 (mFs ad iv), zI (G.2.2.1 0) (ad 0) 602 g] (fun v9 b9 => v9 = some (.int (drawV (drawZ (g 8)) blw)) ∧ b9 = [zO (ad 99) 10 (mFs ad iv), zI (G.2.2.1 0) (ad 0) 602 (upd g 8 (drawZ (g 8)))]) := by
  refine zMet.of (by decide +kernel) (Nat.le_of_ble_eq_true rfl) ?_
  intro p e s m args below meth c A hz hA hr hlk hnm9 Q hQ
  refine z_lv (lv' := [(0, .ref (ad 99)), (1, .int blw)]) [0, 1] rfl ?_
  refine z_aload_n hz dX10_drawn_0 0 rfl rfl ?_
  refine z_get (C := RX10) (T := TX10) (N := 29) hz in_X10 (zAt.mt 0 0 rfl rfl) rfl 0 (by decide) q1929 (fun _ h9 => h9) rfl dX10_drawn_1 ?_
  refine z_bipush hz 8 dX10_drawn_4 kb_8 ?_
  refine z_aload_n hz dX10_drawn_6 0 rfl rfl ?_
  refine z_get (C := RX10) (T := TX10) (N := 29) hz in_X10 (zAt.mt 0 0 rfl rfl) rfl 0 (by decide) q1929 (fun _ h9 => h9) rfl dX10_drawn_7 ?_
  refine z_bipush hz 8 dX10_drawn_10 kb_8 ?_
  refine z_iald hz (zAt.mt 1 0 rfl rfl) kn_8 (by decide) (by decide) dX10_drawn_12 ?_
  refine z_ldcw hz q2424 dX10_drawn_13 ?_
  refine z_imul hz dX10_drawn_16 ?_
  refine z_sipush hz 12345 dX10_drawn_17 ks_12345 ?_
  refine z_iadd hz dX10_drawn_20 ?_
  refine z_iast hz 1 0 rfl rfl kn_8 (by decide) (by decide) dX10_drawn_21 ?_
  refine z_bs (bs2 := [zO (ad 99) 10 (mFs ad iv), zI (G.2.2.1 0) (ad 0) 602 (upd g 8 (((g 8) * 1103515245) + 12345))]) rfl ?_
  refine z_aload_n hz dX10_drawn_22 0 rfl rfl ?_
  refine z_get (C := RX10) (T := TX10) (N := 29) hz in_X10 (zAt.mt 0 0 rfl rfl) rfl 0 (by decide) q1929 (fun _ h9 => h9) rfl dX10_drawn_23 ?_
  refine z_bipush hz 8 dX10_drawn_26 kb_8 ?_
  refine z_iald hz (zAt.mt 1 0 rfl rfl) kn_8 (by decide) (by decide) dX10_drawn_28 ?_
  refine z_top ld_self ?_
  refine z_bipush hz 8 dX10_drawn_29 kb_8 ?_
  refine z_iushr hz dX10_drawn_31 ?_
  refine z_iload_n hz dX10_drawn_32 1 rfl rfl ?_
  refine z_irem hz dX10_drawn_33 hb0 ?_
  exact z_iret hQ hz hr hlk dX10_drawn_34 ⟨rfl, rfl⟩
set_option maxHeartbeats 1000000 in
theorem mM_made {G : zG} (ad : Nat → Nat) (iv g er : Nat → Int32) (kk : Int32) (nm : Nat) (hnm : g 1 = nI nm) (h16 : nm ≤ 16) : zMet G yX10_made (ws_ yX10_made cX10_made 5 (some .int)) (zRm 2 0 0 60) [.ref (ad 99), .int kk] [zO (ad 99) 10 (mFs ad iv), zI (G.2.2.1 0) (ad 0) 602 g, zI (G.2.2.1 0) (ad 4) 6 er] (fun v9 b9 => v9 = some (.int (rOf (sMade g kk))) ∧ b9 = [zO (ad 99) 10 (mFs ad iv), zI (G.2.2.1 0) (ad 0) 602 ((sMade g kk).2.2), zI (G.2.2.1 0) (ad 4) 6 (eOf er (sMade g kk))]) := by
  refine zMet.of (by decide +kernel) (Nat.le_of_ble_eq_true rfl) ?_
  intro p e s m args below meth c A hz hA hr hlk hnm9 Q hQ
  refine z_lv (lv' := [(0, .ref (ad 99)), (1, .int kk)]) [0, 1] rfl ?_
  have tnm : tN (nI nm) = nm := nI_clamp (by omega)
  refine z_iload_n hz dX10_made_0 1 rfl rfl ?_
  refine z_iconst hz 1 dX10_made_1 ki_1 ?_
  refine z_bipush hz 16 dX10_made_2 kb_16 ?_
  refine z_callRD (st2 := [.int (zB (inR kk 1 16))]) hz zKp.mt (zk_S hz (rm := (zRm 0 0 0 0)) (As := [.int kk, .int 1, .int 16]) (rest := []) 3 q2023 q2024 q95 q2025 (by decide +kernel) ⟨Nat.le_of_ble_eq_true rfl, Nat.le_of_ble_eq_true rfl⟩ ⟨Nat.le_of_ble_eq_true rfl, Nat.le_of_ble_eq_true rfl⟩ rfl rfl (Nat.le_of_ble_eq_true rfl) dX10_made_4) (mM_within kk 1 16) (fun _ _ _ => zP0) rfl ?_
  refine z_ifB_ne hz 17 dX10_made_7 (by decide) (fun c1 => ?_) (fun c1 => ?_)
  · obtain ⟨j, j_lo, j_hi, rfl⟩ := inR_nat 1 16 kn_1 kn_16 (by decide) (by decide) c1
    have t_j : tN (nI j) = j := nI_clamp (by omega)
    refine z_aload_n hz dX10_made_17 0 rfl rfl ?_
    refine z_get (C := RX10) (T := TX10) (N := 29) hz in_X10 (zAt.mt 0 0 rfl rfl) rfl 0 (by decide) q1929 (fun _ h9 => h9) rfl dX10_made_18 ?_
    refine z_iconst hz 1 dX10_made_21 ki_1 ?_
    refine z_iald hz (zAt.mt 1 0 rfl rfl) kn_1 (by decide) (by decide) dX10_made_22 ?_
    refine z_top hnm ?_
    refine z_iload_n hz dX10_made_23 1 rfl rfl ?_
    refine z_iaddN hz rfl rfl dX10_made_24 ?_
    refine z_bipush hz 16 dX10_made_25 kb_16 ?_
    refine z_icmpN_le hz rfl kn_16 (by omega) (by decide) 37 dX10_made_27 (by decide) (fun c2 => ?_) (fun c2 => ?_)
    · refine z_iconst hz 0 dX10_made_37 ki_0 ?_
      refine z_istore_n (lv' := [(0, .ref (ad 99)), (1, .int (nI j)), (2, .int 0)]) hz [1, 2, 0] dX10_made_38 rfl (by decide) rfl ?_
      have lp_39 : ∀ (n9 : Nat) (k : Nat) (h : Nat → Int32), k ≤ j → h = madeF g nm k → j - k < n9 → zW p G.1 e (zRm 2 0 0 60) s m args below meth c 5 Q 0 0 (zΦ G A s [zO (ad 99) 10 (mFs ad iv), zI (G.2.2.1 0) (ad 0) 602 h, zI (G.2.2.1 0) (ad 4) 6 er]) 39 [(0, .ref (ad 99)), (1, .int (nI j)), (2, .int (nI k))] [] := by
        intro n9
        induction n9 with
        | zero => intro _ _ _ _ hm; exact absurd hm (Nat.not_lt_zero _)
        | succ n9 ih_39 =>
          intro k h hk hh hm_39
          have hn1 : h 1 = nI (nm + k) := by rw [hh]; exact madeF_1 hnm k
          refine z_iload_n hz dX10_made_39 2 rfl rfl ?_
          refine z_iload_n hz dX10_made_40 1 rfl rfl ?_
          refine z_icmpN_ge hz rfl rfl (by omega) (by omega) 77 dX10_made_41 (by decide) (fun c3 => ?_) (fun c3 => ?_)
          · refine z_aload_n hz dX10_made_77 0 rfl rfl ?_
            refine z_get (C := RX10) (T := TX10) (N := 29) hz in_X10 (zAt.mt 0 0 rfl rfl) rfl 0 (by decide) q1929 (fun _ h9 => h9) rfl dX10_made_78 ?_
            refine z_iconst hz 1 dX10_made_81 ki_1 ?_
            refine z_iald hz (zAt.mt 1 0 rfl rfl) kn_1 (by decide) (by decide) dX10_made_82 ?_
            refine z_top hn1 ?_
            exact z_iret hQ hz hr hlk dX10_made_83 (by
              have e9 : sMade g (nI j) = (0, nI (nm + k), h) := by simp only [sMade]; rw [if_pos c1, hnm, tnm, t_j, if_neg (by omega), show j = k by omega, ← hh]
              rw [e9]; exact ⟨congrArg (fun z => some (Value.int z)) rOf_0.symm, rfl⟩)
          · refine z_aload_n hz dX10_made_44 0 rfl rfl ?_
            refine z_bipush hz 8 dX10_made_45 kb_8 ?_
            refine z_callD (bs2 := [zO (ad 99) 10 (mFs ad iv), zI (G.2.2.1 0) (ad 0) 602 (upd h 8 (drawZ (h 8))), zI (G.2.2.1 0) (ad 4) 6 er]) (st2 := [.int (drawV (drawZ (h 8)) 8)]) hz hA (zk_V hz (rm := (zRm 0 0 0 0)) (As := [.int 8]) (rest := []) 1 q2420 q2422 qs73 q95 q2423 (by decide +kernel) ⟨Nat.le_of_ble_eq_true rfl, Nat.le_of_ble_eq_true rfl⟩ ⟨Nat.le_of_ble_eq_true rfl, Nat.le_of_ble_eq_true rfl⟩ (zRecv (q := (RX10, TX10, 29)) hz (zAt.mt 0 0 rfl rfl) rfl) rfl rfl (Nat.le_of_ble_eq_true rfl) dX10_made_47) (mM_drawn ad iv h 8 (by decide)) [0, 1] rfl (by decide) rfl rfl ?_
            refine z_istore_n (lv' := [(0, .ref (ad 99)), (1, .int (nI j)), (2, .int (nI k)), (3, .int (drawV (drawZ (h 8)) 8))]) hz [1, 2, 3, 0] dX10_made_50 rfl (by decide) rfl ?_
            refine z_aload_n hz dX10_made_51 0 rfl rfl ?_
            refine z_bipush hz 10 dX10_made_52 kb_10 ?_
            refine z_callD (bs2 := [zO (ad 99) 10 (mFs ad iv), zI (G.2.2.1 0) (ad 0) 602 (upd (upd h 8 (drawZ (h 8))) 8 (drawZ ((upd h 8 (drawZ (h 8))) 8))), zI (G.2.2.1 0) (ad 4) 6 er]) (st2 := [.int (drawV (drawZ ((upd h 8 (drawZ (h 8))) 8)) 10)]) hz hA (zk_V hz (rm := (zRm 0 0 0 0)) (As := [.int 10]) (rest := []) 1 q2420 q2422 qs73 q95 q2423 (by decide +kernel) ⟨Nat.le_of_ble_eq_true rfl, Nat.le_of_ble_eq_true rfl⟩ ⟨Nat.le_of_ble_eq_true rfl, Nat.le_of_ble_eq_true rfl⟩ (zRecv (q := (RX10, TX10, 29)) hz (zAt.mt 0 0 rfl rfl) rfl) rfl rfl (Nat.le_of_ble_eq_true rfl) dX10_made_54) (mM_drawn ad iv (upd h 8 (drawZ (h 8))) 10 (by decide)) [0, 1] rfl (by decide) rfl rfl ?_
            refine z_istore (lv' := [(0, .ref (ad 99)), (1, .int (nI j)), (2, .int (nI k)), (3, .int (drawV (drawZ (h 8)) 8)), (4, .int (drawV (drawZ ((upd h 8 (drawZ (h 8))) 8)) 10))]) hz [1, 2, 3, 4, 0] dX10_made_57 (by decide) rfl ?_
            refine z_aload_n hz dX10_made_59 0 rfl rfl ?_
            refine z_iload_n hz dX10_made_60 3 rfl rfl ?_
            refine z_iload hz dX10_made_61 4 rfl ?_
            refine z_aload_n hz dX10_made_63 0 rfl rfl ?_
            refine z_iconst hz 2 dX10_made_64 ki_2 ?_
            refine z_callD (bs2 := [zO (ad 99) 10 (mFs ad iv), zI (G.2.2.1 0) (ad 0) 602 (upd (upd (upd h 8 (drawZ (h 8))) 8 (drawZ ((upd h 8 (drawZ (h 8))) 8))) 8 (drawZ ((upd (upd h 8 (drawZ (h 8))) 8 (drawZ ((upd h 8 (drawZ (h 8))) 8))) 8))), zI (G.2.2.1 0) (ad 4) 6 er]) (st2 := [.int (drawV (drawZ ((upd (upd h 8 (drawZ (h 8))) 8 (drawZ ((upd h 8 (drawZ (h 8))) 8))) 8)) 2), .int (drawV (drawZ ((upd h 8 (drawZ (h 8))) 8)) 10), .int (drawV (drawZ (h 8)) 8), .ref (ad 99)]) hz hA (zk_V hz (rm := (zRm 0 0 0 0)) (As := [.int 2]) (rest := [.int (drawV (drawZ ((upd h 8 (drawZ (h 8))) 8)) 10), .int (drawV (drawZ (h 8)) 8), .ref (ad 99)]) 1 q2420 q2422 qs73 q95 q2423 (by decide +kernel) ⟨Nat.le_of_ble_eq_true rfl, Nat.le_of_ble_eq_true rfl⟩ ⟨Nat.le_of_ble_eq_true rfl, Nat.le_of_ble_eq_true rfl⟩ (zRecv (q := (RX10, TX10, 29)) hz (zAt.mt 0 0 rfl rfl) rfl) rfl rfl (Nat.le_of_ble_eq_true rfl) dX10_made_65) (mM_drawn ad iv (upd (upd h 8 (drawZ (h 8))) 8 (drawZ ((upd h 8 (drawZ (h 8))) 8))) 2 (by decide)) [0, 1] rfl (by decide) rfl rfl ?_
            refine z_callD (bs2 := [zO (ad 99) 10 (mFs ad iv), zI (G.2.2.1 0) (ad 0) 602 (comesF (upd (upd (upd h 8 (drawZ (h 8))) 8 (drawZ ((upd h 8 (drawZ (h 8))) 8))) 8 (drawZ ((upd (upd h 8 (drawZ (h 8))) 8 (drawZ ((upd h 8 (drawZ (h 8))) 8))) 8))) (nm + k) (drawV (drawZ (h 8)) 8) (drawV (drawZ ((upd h 8 (drawZ (h 8))) 8)) 10) (drawV (drawZ ((upd (upd h 8 (drawZ (h 8))) 8 (drawZ ((upd h 8 (drawZ (h 8))) 8))) 8)) 2)), zI (G.2.2.1 0) (ad 4) 6 er]) (st2 := []) hz hA (zk_V hz (rm := (zRm 0 0 0 0)) (As := [.int (drawV (drawZ (h 8)) 8), .int (drawV (drawZ ((upd h 8 (drawZ (h 8))) 8)) 10), .int (drawV (drawZ ((upd (upd h 8 (drawZ (h 8))) 8 (drawZ ((upd h 8 (drawZ (h 8))) 8))) 8)) 2)]) (rest := []) 3 q2045 q2047 qs36 q95 q2048 (by decide +kernel) ⟨Nat.le_of_ble_eq_true rfl, Nat.le_of_ble_eq_true rfl⟩ ⟨Nat.le_of_ble_eq_true rfl, Nat.le_of_ble_eq_true rfl⟩ (zRecv (q := (RX10, TX10, 29)) hz (zAt.mt 0 0 rfl rfl) rfl) rfl rfl (Nat.le_of_ble_eq_true rfl) dX10_made_68) (mM_comes ad iv (upd (upd (upd h 8 (drawZ (h 8))) 8 (drawZ ((upd h 8 (drawZ (h 8))) 8))) 8 (drawZ ((upd (upd h 8 (drawZ (h 8))) 8 (drawZ ((upd h 8 (drawZ (h 8))) 8))) 8))) (nm + k) (ld_ne (by decide) (ld_ne (by decide) (ld_ne (by decide) hn1))) (by omega) (drawV (drawZ (h 8)) 8) (drawV (drawZ ((upd h 8 (drawZ (h 8))) 8)) 10) (drawV (drawZ ((upd (upd h 8 (drawZ (h 8))) 8 (drawZ ((upd h 8 (drawZ (h 8))) 8))) 8)) 2)) [0, 1] rfl (by decide) rfl rfl ?_
            refine z_iinc (lv' := [(0, .ref (ad 99)), (1, .int (nI j)), (2, .int (nI (k + 1))), (3, .int (drawV (drawZ (h 8)) 8)), (4, .int (drawV (drawZ ((upd h 8 (drawZ (h 8))) 8)) 10))]) hz (nI (k + 1)) 2 [1, 2, 0, 3, 4] dX10_made_71 rfl (nI_1 _) (by decide) rfl ?_
            refine z_goto hz 39 dX10_made_74 (by decide) ?_
            refine z_lv [0, 1, 2] rfl ?_
            exact ih_39 (k + 1) (comesF (upd (upd (upd h 8 (drawZ (h 8))) 8 (drawZ ((upd h 8 (drawZ (h 8))) 8))) 8 (drawZ ((upd (upd h 8 (drawZ (h 8))) 8 (drawZ ((upd h 8 (drawZ (h 8))) 8))) 8))) (nm + k) (drawV (drawZ (h 8)) 8) (drawV (drawZ ((upd h 8 (drawZ (h 8))) 8)) 10) (drawV (drawZ ((upd (upd h 8 (drawZ (h 8))) 8 (drawZ ((upd h 8 (drawZ (h 8))) 8))) 8)) 2)) (by omega) (by rw [hh]; rfl) (by omega)
      exact lp_39 ((j - 0) + 1) 0 g (Nat.zero_le _) rfl (Nat.lt_succ_self _)
    · refine z_aload_n hz dX10_made_30 0 rfl rfl ?_
      refine z_ldc hz q2044 dX10_made_31 ?_
      refine z_callD (bs2 := [zO (ad 99) 10 (mFs ad iv), zI (G.2.2.1 0) (ad 0) 602 g, zI (G.2.2.1 0) (ad 4) 6 (upd er 4 (er 4 + 1))]) (st2 := [.int (-1000004)]) hz hA (zk_V hz (rm := (zRm 0 0 0 0)) (As := [.int (-1000004)]) (rest := []) 1 q2032 q2034 qs35 q95 q2035 (by decide +kernel) ⟨Nat.le_of_ble_eq_true rfl, Nat.le_of_ble_eq_true rfl⟩ ⟨Nat.le_of_ble_eq_true rfl, Nat.le_of_ble_eq_true rfl⟩ (zRecv (q := (RX10, TX10, 29)) hz (zAt.mt 0 0 rfl rfl) rfl) rfl rfl (Nat.le_of_ble_eq_true rfl) dX10_made_33) (mM_finding ad iv er (-1000004) 4 (by decide) (by decide)) [0, 2] rfl (by decide) rfl rfl ?_
      exact z_iret hQ hz hr hlk dX10_made_36 (by
        have e9 : sMade g (nI j) = (4, 0, g) := by simp [sMade, inR, nI_clamp, c1, c2, t_j, hnm, tnm]
        rw [e9]; exact ⟨congrArg (fun z => some (Value.int z)) rE4, rfl⟩)
  · refine z_aload_n hz dX10_made_10 0 rfl rfl ?_
    refine z_ldc hz q2031 dX10_made_11 ?_
    refine z_callD (bs2 := [zO (ad 99) 10 (mFs ad iv), zI (G.2.2.1 0) (ad 0) 602 g, zI (G.2.2.1 0) (ad 4) 6 (upd er 1 (er 1 + 1))]) (st2 := [.int (-1000001)]) hz hA (zk_V hz (rm := (zRm 0 0 0 0)) (As := [.int (-1000001)]) (rest := []) 1 q2032 q2034 qs35 q95 q2035 (by decide +kernel) ⟨Nat.le_of_ble_eq_true rfl, Nat.le_of_ble_eq_true rfl⟩ ⟨Nat.le_of_ble_eq_true rfl, Nat.le_of_ble_eq_true rfl⟩ (zRecv (q := (RX10, TX10, 29)) hz (zAt.mt 0 0 rfl rfl) rfl) rfl rfl (Nat.le_of_ble_eq_true rfl) dX10_made_13) (mM_finding ad iv er (-1000001) 1 (by decide) (by decide)) [0, 2] rfl (by decide) rfl rfl ?_
    exact z_iret hQ hz hr hlk dX10_made_16 (by
      have e9 : sMade g kk = (1, 0, g) := by simp [sMade, inR, nI_clamp, c1, hnm, tnm]
      rw [e9]; exact ⟨congrArg (fun z => some (Value.int z)) rE1, rfl⟩)
set_option maxHeartbeats 400000 in
theorem mM_blown {G : zG} (ad : Nat → Nat) (iv g : Nat → Int32) (nt : Nat) (hnt : g 4 = nI nt) (h8 : nt ≤ 8) : zRd G yX10_blown (ws_ yX10_blown cX10_blown 3 (some .int)) (zRm 1 0 0 30) [.ref (ad 99)] [(ad 99, .inr (10, mFs ad iv)), (ad 0, .inl (G.2.2.1 0, 602, .inl g))] (fun v9 => v9 = some (.int (blownF g nt))) := by
  refine zRd.of (by decide +kernel) (Nat.le_of_ble_eq_true rfl) ?_
  intro p e s m args below meth c hz hP hr hlk Q hQ
  refine z_lv (lv' := [(0, .ref (ad 99))]) [0] rfl ?_
  refine z_iconst hz 0 dX10_blown_0 ki_0 ?_
  refine z_istore_n (lv' := [(0, .ref (ad 99)), (1, .int 0)]) hz [1, 0] dX10_blown_1 rfl (by decide) rfl ?_
  refine z_iconst hz 0 dX10_blown_2 ki_0 ?_
  refine z_istore_n (lv' := [(0, .ref (ad 99)), (1, .int 0), (2, .int 0)]) hz [1, 2, 0] dX10_blown_3 rfl (by decide) rfl ?_
  have lp_4 : ∀ (n9 : Nat) (k : Nat) (x : Int32), k ≤ nt → x = blownF g k → nt - k < n9 → zW p G.1 e (zRm 1 0 0 30) s m args below meth c 3 Q 0 0 (zΨ s) 4 [(0, .ref (ad 99)), (1, .int x), (2, .int (nI k))] [] := by
    intro n9
    induction n9 with
    | zero => intro _ _ _ _ hm; exact absurd hm (Nat.not_lt_zero _)
    | succ n9 ih_4 =>
      intro k x hk hx hm_4
      refine z_iload_n hz dX10_blown_4 2 rfl rfl ?_
      refine z_aload_n hz dX10_blown_5 0 rfl rfl ?_
      refine z_get (C := RX10) (T := TX10) (N := 29) hz in_X10 (zAt.rd hP 0 rfl) rfl 0 (by decide) q1929 (fun _ h9 => h9) rfl dX10_blown_6 ?_
      refine z_iconst hz 4 dX10_blown_9 ki_4 ?_
      refine z_iald hz (zAt.rd hP 1 rfl) kn_4 (by decide) (by decide) dX10_blown_10 ?_
      refine z_top hnt ?_
      refine z_icmpN_ge hz rfl rfl (by omega) (by omega) 39 dX10_blown_11 (by decide) (fun c1 => ?_) (fun c1 => ?_)
      · refine z_iload_n hz dX10_blown_39 1 rfl rfl ?_
        exact zr_iret hQ hz hr hlk dX10_blown_40 (by rw [hx, show k = nt by omega])
      · refine z_iload_n hz dX10_blown_14 1 rfl rfl ?_
        refine z_aload_n hz dX10_blown_15 0 rfl rfl ?_
        refine z_get (C := RX10) (T := TX10) (N := 29) hz in_X10 (zAt.rd hP 0 rfl) rfl 0 (by decide) q1929 (fun _ h9 => h9) rfl dX10_blown_16 ?_
        refine z_sipush hz 200 dX10_blown_19 ks_200 ?_
        refine z_iconst hz 3 dX10_blown_22 ki_3 ?_
        refine z_iload_n hz dX10_blown_23 2 rfl rfl ?_
        refine z_imulN hz kn_3 rfl dX10_blown_24 ?_
        refine z_iaddN hz kn_200 rfl dX10_blown_25 ?_
        refine z_iconst hz 2 dX10_blown_26 ki_2 ?_
        refine z_iaddN hz rfl kn_2 dX10_blown_27 ?_
        refine z_iald hz (zAt.rd hP 1 rfl) rfl (by omega) (by decide) dX10_blown_28 ?_
        refine z_iload_n hz dX10_blown_29 2 rfl rfl ?_
        refine z_ishl hz dX10_blown_30 ?_
        refine z_ior hz dX10_blown_31 ?_
        refine z_istore_n (lv' := [(0, .ref (ad 99)), (1, .int (x ||| ((g ((200 + (3 * k)) + 2)) <<< ((nI k) &&& 31)))), (2, .int (nI k))]) hz [1, 0, 2] dX10_blown_32 rfl (by decide) rfl ?_
        refine z_iinc (lv' := [(0, .ref (ad 99)), (1, .int (x ||| ((g ((200 + (3 * k)) + 2)) <<< ((nI k) &&& 31)))), (2, .int (nI (k + 1)))]) hz (nI (k + 1)) 2 [1, 2, 0] dX10_blown_33 rfl (nI_1 _) (by decide) rfl ?_
        refine z_goto hz 4 dX10_blown_36 (by decide) ?_
        exact ih_4 (k + 1) (x ||| ((g ((200 + (3 * k)) + 2)) <<< ((nI k) &&& 31))) (by omega) (by rw [hx]; rfl) (by omega)
  exact lp_4 ((nt - 0) + 1) 0 0 (Nat.zero_le _) rfl (Nat.lt_succ_self _)
set_option maxHeartbeats 400000 in
theorem mM_liftOf {G : zG} (ad : Nat → Nat) (iv g : Nat → Int32) (nt : Nat) (hnt : g 4 = nI nt) (h8 : nt ≤ 8) (set what : Int32) : zRd G yX10_liftOf (ws_ yX10_liftOf cX10_liftOf 6 (some .int)) (zRm 1 0 0 30) [.ref (ad 99), .int set, .int what] [(ad 99, .inr (10, mFs ad iv)), (ad 0, .inl (G.2.2.1 0, 602, .inl g))] (fun v9 => v9 = some (.int (liftF g set what nt))) := by
  refine zRd.of (by decide +kernel) (Nat.le_of_ble_eq_true rfl) ?_
  intro p e s m args below meth c hz hP hr hlk Q hQ
  refine z_lv (lv' := [(0, .ref (ad 99)), (1, .int set), (2, .int what)]) [0, 1, 2] rfl ?_
  refine z_iconst hz 0 dX10_liftOf_0 ki_0 ?_
  refine z_istore_n (lv' := [(0, .ref (ad 99)), (1, .int set), (2, .int what), (3, .int 0)]) hz [1, 2, 3, 0] dX10_liftOf_1 rfl (by decide) rfl ?_
  refine z_iconst hz 0 dX10_liftOf_2 ki_0 ?_
  refine z_istore (lv' := [(0, .ref (ad 99)), (1, .int set), (2, .int what), (3, .int 0), (4, .int 0)]) hz [1, 2, 3, 4, 0] dX10_liftOf_3 (by decide) rfl ?_
  have lp_5 : ∀ (n9 : Nat) (k : Nat) (x : Int32), k ≤ nt → x = liftF g set what k → nt - k < n9 → zW p G.1 e (zRm 1 0 0 30) s m args below meth c 6 Q 0 0 (zΨ s) 5 [(0, .ref (ad 99)), (1, .int set), (2, .int what), (3, .int x), (4, .int (nI k))] [] := by
    intro n9
    induction n9 with
    | zero => intro _ _ _ _ hm; exact absurd hm (Nat.not_lt_zero _)
    | succ n9 ih_5 =>
      intro k x hk hx hm_5
      refine z_iload hz dX10_liftOf_5 4 rfl ?_
      refine z_aload_n hz dX10_liftOf_7 0 rfl rfl ?_
      refine z_get (C := RX10) (T := TX10) (N := 29) hz in_X10 (zAt.rd hP 0 rfl) rfl 0 (by decide) q1929 (fun _ h9 => h9) rfl dX10_liftOf_8 ?_
      refine z_iconst hz 4 dX10_liftOf_11 ki_4 ?_
      refine z_iald hz (zAt.rd hP 1 rfl) kn_4 (by decide) (by decide) dX10_liftOf_12 ?_
      refine z_top hnt ?_
      refine z_icmpN_ge hz rfl rfl (by omega) (by omega) 82 dX10_liftOf_13 (by decide) (fun c1 => ?_) (fun c1 => ?_)
      · refine z_iload_n hz dX10_liftOf_82 3 rfl rfl ?_
        exact zr_iret hQ hz hr hlk dX10_liftOf_83 (by rw [hx, show k = nt by omega])
      · refine z_aload_n hz dX10_liftOf_16 0 rfl rfl ?_
        refine z_get (C := RX10) (T := TX10) (N := 29) hz in_X10 (zAt.rd hP 0 rfl) rfl 0 (by decide) q1929 (fun _ h9 => h9) rfl dX10_liftOf_17 ?_
        refine z_sipush hz 200 dX10_liftOf_20 ks_200 ?_
        refine z_iconst hz 3 dX10_liftOf_23 ki_3 ?_
        refine z_iload hz dX10_liftOf_24 4 rfl ?_
        refine z_imulN hz kn_3 rfl dX10_liftOf_26 ?_
        refine z_iaddN hz kn_200 rfl dX10_liftOf_27 ?_
        refine z_iconst hz 1 dX10_liftOf_28 ki_1 ?_
        refine z_iaddN hz rfl kn_1 dX10_liftOf_29 ?_
        refine z_iald hz (zAt.rd hP 1 rfl) rfl (by omega) (by decide) dX10_liftOf_30 ?_
        refine z_istore (lv' := [(0, .ref (ad 99)), (1, .int set), (2, .int what), (3, .int x), (4, .int (nI k)), (5, .int (g ((200 + (3 * k)) + 1)))]) hz [1, 2, 3, 4, 5, 0] dX10_liftOf_31 (by decide) rfl ?_
        refine z_iload_n hz dX10_liftOf_33 3 rfl rfl ?_
        refine z_iload_n hz dX10_liftOf_34 1 rfl rfl ?_
        refine z_iload hz dX10_liftOf_35 4 rfl ?_
        refine z_callRD (st2 := [.int (zB (hasB set (nI k))), .int x]) hz zKp.rd (zk_S hz (rm := (zRm 0 0 0 0)) (As := [.int set, .int (nI k)]) (rest := [.int x]) 2 q2272 q2273 q95 q2274 (by decide +kernel) ⟨Nat.le_of_ble_eq_true rfl, Nat.le_of_ble_eq_true rfl⟩ ⟨Nat.le_of_ble_eq_true rfl, Nat.le_of_ble_eq_true rfl⟩ rfl rfl (Nat.le_of_ble_eq_true rfl) dX10_liftOf_37) (mM_has set (nI k)) (fun _ _ _ => zP0) rfl ?_
        refine z_ifB_ne hz 47 dX10_liftOf_40 (by decide) (fun c2 => ?_) (fun c2 => ?_)
        · refine z_iload_n hz dX10_liftOf_47 2 rfl rfl ?_
          refine z_if_ne hz 56 dX10_liftOf_48 (by decide) (fun c3 => ?_) (fun c3 => ?_)
          · refine z_iload hz dX10_liftOf_56 5 rfl ?_
            refine z_aload_n hz dX10_liftOf_58 0 rfl rfl ?_
            refine z_get (C := RX10) (T := TX10) (N := 29) hz in_X10 (zAt.rd hP 0 rfl) rfl 0 (by decide) q1929 (fun _ h9 => h9) rfl dX10_liftOf_59 ?_
            refine z_sipush hz 200 dX10_liftOf_62 ks_200 ?_
            refine z_iconst hz 3 dX10_liftOf_65 ki_3 ?_
            refine z_iload hz dX10_liftOf_66 4 rfl ?_
            refine z_imulN hz kn_3 rfl dX10_liftOf_68 ?_
            refine z_iaddN hz kn_200 rfl dX10_liftOf_69 ?_
            refine z_iconst hz 0 dX10_liftOf_70 ki_0 ?_
            refine z_iaddN hz rfl kn_0 dX10_liftOf_71 ?_
            refine z_iald hz (zAt.rd hP 1 rfl) rfl (by omega) (by decide) dX10_liftOf_72 ?_
            refine z_imul hz dX10_liftOf_73 ?_
            refine z_iadd hz dX10_liftOf_74 ?_
            refine z_istore_n (lv' := [(0, .ref (ad 99)), (1, .int set), (2, .int what), (3, .int (x + ((g ((200 + (3 * k)) + 1)) * (g (200 + (3 * k)))))), (4, .int (nI k)), (5, .int (g ((200 + (3 * k)) + 1)))]) hz [1, 2, 3, 0, 4, 5] dX10_liftOf_75 rfl (by decide) rfl ?_
            refine z_iinc (lv' := [(0, .ref (ad 99)), (1, .int set), (2, .int what), (3, .int (x + ((g ((200 + (3 * k)) + 1)) * (g (200 + (3 * k)))))), (4, .int (nI (k + 1))), (5, .int (g ((200 + (3 * k)) + 1)))]) hz (nI (k + 1)) 4 [1, 2, 3, 4, 0, 5] dX10_liftOf_76 rfl (nI_1 _) (by decide) rfl ?_
            refine z_goto hz 5 dX10_liftOf_79 (by decide) ?_
            refine z_lv [0, 1, 2, 3, 4] rfl ?_
            exact ih_5 (k + 1) (x + ((g ((200 + (3 * k)) + 1)) * (g (200 + (3 * k))))) (by omega) (by simp only [liftF]; rw [← hx, if_pos c2, if_neg c3]) (by omega)
          · refine z_iload hz dX10_liftOf_51 5 rfl ?_
            refine z_goto hz 74 dX10_liftOf_53 (by decide) ?_
            refine z_iadd hz dX10_liftOf_74 ?_
            refine z_istore_n (lv' := [(0, .ref (ad 99)), (1, .int set), (2, .int what), (3, .int (x + (g ((200 + (3 * k)) + 1)))), (4, .int (nI k)), (5, .int (g ((200 + (3 * k)) + 1)))]) hz [1, 2, 3, 0, 4, 5] dX10_liftOf_75 rfl (by decide) rfl ?_
            refine z_iinc (lv' := [(0, .ref (ad 99)), (1, .int set), (2, .int what), (3, .int (x + (g ((200 + (3 * k)) + 1)))), (4, .int (nI (k + 1))), (5, .int (g ((200 + (3 * k)) + 1)))]) hz (nI (k + 1)) 4 [1, 2, 3, 4, 0, 5] dX10_liftOf_76 rfl (nI_1 _) (by decide) rfl ?_
            refine z_goto hz 5 dX10_liftOf_79 (by decide) ?_
            refine z_lv [0, 1, 2, 3, 4] rfl ?_
            exact ih_5 (k + 1) (x + (g ((200 + (3 * k)) + 1))) (by omega) (by simp only [liftF]; rw [← hx, if_pos c2, if_pos c3]) (by omega)
        · refine z_iconst hz 0 dX10_liftOf_43 ki_0 ?_
          refine z_goto hz 74 dX10_liftOf_44 (by decide) ?_
          refine z_iadd hz dX10_liftOf_74 ?_
          refine z_istore_n (lv' := [(0, .ref (ad 99)), (1, .int set), (2, .int what), (3, .int (x + 0)), (4, .int (nI k)), (5, .int (g ((200 + (3 * k)) + 1)))]) hz [1, 2, 3, 0, 4, 5] dX10_liftOf_75 rfl (by decide) rfl ?_
          refine z_iinc (lv' := [(0, .ref (ad 99)), (1, .int set), (2, .int what), (3, .int (x + 0)), (4, .int (nI (k + 1))), (5, .int (g ((200 + (3 * k)) + 1)))]) hz (nI (k + 1)) 4 [1, 2, 3, 4, 0, 5] dX10_liftOf_76 rfl (nI_1 _) (by decide) rfl ?_
          refine z_goto hz 5 dX10_liftOf_79 (by decide) ?_
          refine z_lv [0, 1, 2, 3, 4] rfl ?_
          exact ih_5 (k + 1) (x + 0) (by omega) (by simp only [liftF]; rw [← hx, if_neg c2]) (by omega)
  exact lp_5 ((nt - 0) + 1) 0 0 (Nat.zero_le _) rfl (Nat.lt_succ_self _)
set_option maxHeartbeats 400000 in
theorem mM_lift {G : zG} (ad : Nat → Nat) (iv g er : Nat → Int32) (set what : Int32) (nt : Nat) (hnt : g 4 = nI nt) (h8 : nt ≤ 8) : zMet G yX10_lift (ws_ yX10_lift cX10_lift 3 (some .int)) (zRm 2 0 0 60) [.ref (ad 99), .int set, .int what] [zO (ad 99) 10 (mFs ad iv), zI (G.2.2.1 0) (ad 0) 602 g, zI (G.2.2.1 0) (ad 4) 6 er] (fun v9 b9 => v9 = some (.int (rOf (sLift g set what))) ∧ b9 = [zO (ad 99) 10 (mFs ad iv), zI (G.2.2.1 0) (ad 0) 602 ((sLift g set what).2.2), zI (G.2.2.1 0) (ad 4) 6 (eOf er (sLift g set what))]) := by
  refine zMet.of (by decide +kernel) (Nat.le_of_ble_eq_true rfl) ?_
  intro p e s m args below meth c A hz hA hr hlk hnm9 Q hQ
  refine z_lv (lv' := [(0, .ref (ad 99)), (1, .int set), (2, .int what)]) [0, 1, 2] rfl ?_
  have tnt : tN (nI nt) = nt := nI_clamp (by omega)
  obtain ⟨P2, hP2⟩ : ∃ q, q = 2 ^ nt := ⟨_, rfl⟩
  have hp2 : 1 ≤ P2 ∧ P2 ≤ 256 := by rw [hP2]; exact ⟨Nat.one_le_two_pow, Nat.pow_le_pow_right (by omega) h8⟩
  refine z_iload_n hz dX10_lift_0 1 rfl rfl ?_
  refine z_iconst hz (-1) dX10_lift_1 ki_m1 ?_
  refine z_iconst hz 1 dX10_lift_2 ki_1 ?_
  refine z_aload_n hz dX10_lift_3 0 rfl rfl ?_
  refine z_get (C := RX10) (T := TX10) (N := 29) hz in_X10 (zAt.mt 0 0 rfl rfl) rfl 0 (by decide) q1929 (fun _ h9 => h9) rfl dX10_lift_4 ?_
  refine z_iconst hz 4 dX10_lift_7 ki_4 ?_
  refine z_iald hz (zAt.mt 1 0 rfl rfl) kn_4 (by decide) (by decide) dX10_lift_8 ?_
  refine z_top hnt ?_
  refine z_ishl hz dX10_lift_9 ?_
  refine z_top (y := nI P2) ((bit_nat (by omega)).trans (by rw [hP2])) ?_
  refine z_iconst hz 1 dX10_lift_10 ki_1 ?_
  refine z_isubN hz rfl kn_1 (by omega) dX10_lift_11 ?_
  refine z_callRD (st2 := [.int (zB (inR set (-1) (nI (P2 - 1))))]) hz zKp.mt (zk_S hz (rm := (zRm 0 0 0 0)) (As := [.int set, .int (-1), .int (nI (P2 - 1))]) (rest := []) 3 q2023 q2024 q95 q2025 (by decide +kernel) ⟨Nat.le_of_ble_eq_true rfl, Nat.le_of_ble_eq_true rfl⟩ ⟨Nat.le_of_ble_eq_true rfl, Nat.le_of_ble_eq_true rfl⟩ rfl rfl (Nat.le_of_ble_eq_true rfl) dX10_lift_12) (mM_within set (-1) (nI (P2 - 1))) (fun _ _ _ => zP0) rfl ?_
  refine z_ifB_eq hz 27 dX10_lift_15 (by decide) (fun c1 => ?_) (fun c1 => ?_)
  · refine z_aload_n hz dX10_lift_27 0 rfl rfl ?_
    refine z_ldc hz q2031 dX10_lift_28 ?_
    refine z_callD (bs2 := [zO (ad 99) 10 (mFs ad iv), zI (G.2.2.1 0) (ad 0) 602 g, zI (G.2.2.1 0) (ad 4) 6 (upd er 1 (er 1 + 1))]) (st2 := [.int (-1000001)]) hz hA (zk_V hz (rm := (zRm 0 0 0 0)) (As := [.int (-1000001)]) (rest := []) 1 q2032 q2034 qs35 q95 q2035 (by decide +kernel) ⟨Nat.le_of_ble_eq_true rfl, Nat.le_of_ble_eq_true rfl⟩ ⟨Nat.le_of_ble_eq_true rfl, Nat.le_of_ble_eq_true rfl⟩ (zRecv (q := (RX10, TX10, 29)) hz (zAt.mt 0 0 rfl rfl) rfl) rfl rfl (Nat.le_of_ble_eq_true rfl) dX10_lift_30) (mM_finding ad iv er (-1000001) 1 (by decide) (by decide)) [0, 2] rfl (by decide) rfl rfl ?_
    exact z_iret hQ hz hr hlk dX10_lift_33 (by
      have e9 : sLift g set what = (1, 0, g) := by simp only [sLift]; rw [hnt, tnt, ← hP2, if_neg (fun h9 => c1 h9.1)]
      rw [e9]; exact ⟨congrArg (fun z => some (Value.int z)) rE1, rfl⟩)
  · refine z_iload_n hz dX10_lift_18 2 rfl rfl ?_
    refine z_iconst hz 0 dX10_lift_19 ki_0 ?_
    refine z_iconst hz 1 dX10_lift_20 ki_1 ?_
    refine z_callRD (st2 := [.int (zB (inR what 0 1))]) hz zKp.mt (zk_S hz (rm := (zRm 0 0 0 0)) (As := [.int what, .int 0, .int 1]) (rest := []) 3 q2023 q2024 q95 q2025 (by decide +kernel) ⟨Nat.le_of_ble_eq_true rfl, Nat.le_of_ble_eq_true rfl⟩ ⟨Nat.le_of_ble_eq_true rfl, Nat.le_of_ble_eq_true rfl⟩ rfl rfl (Nat.le_of_ble_eq_true rfl) dX10_lift_21) (mM_within what 0 1) (fun _ _ _ => zP0) rfl ?_
    refine z_ifB_ne hz 34 dX10_lift_24 (by decide) (fun c2 => ?_) (fun c2 => ?_)
    · refine z_aload_n hz dX10_lift_34 0 rfl rfl ?_
      refine z_iload_n hz dX10_lift_35 1 rfl rfl ?_
      refine z_if_ge hz 46 dX10_lift_36 (by decide) (fun c3 => ?_) (fun c3 => ?_)
      · refine z_iload_n hz dX10_lift_46 1 rfl rfl ?_
        refine z_iload_n hz dX10_lift_47 2 rfl rfl ?_
        refine z_callRD (st2 := [.int (liftF g set what nt)]) hz zKp.mt (zk_V hz (rm := (zRm 1 0 0 30)) (As := [.int set, .int what]) (rest := []) 2 q2333 q2335 qs68 q95 q2336 (by decide +kernel) ⟨Nat.le_of_ble_eq_true rfl, Nat.le_of_ble_eq_true rfl⟩ ⟨Nat.le_of_ble_eq_true rfl, Nat.le_of_ble_eq_true rfl⟩ (zRecv (q := (RX10, TX10, 29)) hz (zAt.mt 0 0 rfl rfl) rfl) rfl rfl (Nat.le_of_ble_eq_true rfl) dX10_lift_48) (mM_liftOf ad iv g nt hnt h8 set what) (fun H9 L9 h9 => (zPc (zAt.mt 0 0 rfl rfl) h9 (zPc (zAt.mt 1 0 rfl rfl) h9 zP0))) rfl ?_
        exact z_iret hQ hz hr hlk dX10_lift_51 (by
          have e9 : sLift g set what = (0, liftF g set what nt, g) := by simp only [sLift]; rw [hnt, tnt, ← hP2, if_pos ⟨c1, c2⟩, if_neg (Int32.not_lt.mpr c3)]
          rw [e9]; exact ⟨congrArg (fun z => some (Value.int z)) rOf_0.symm, rfl⟩)
      · refine z_aload_n hz dX10_lift_39 0 rfl rfl ?_
        refine z_callRD (st2 := [.int (blownF g nt), .ref (ad 99)]) hz zKp.mt (zk_V hz (rm := (zRm 1 0 0 30)) (As := []) (rest := [.ref (ad 99)]) 0 q2329 q2331 qs67 q95 q2332 (by decide +kernel) ⟨Nat.le_of_ble_eq_true rfl, Nat.le_of_ble_eq_true rfl⟩ ⟨Nat.le_of_ble_eq_true rfl, Nat.le_of_ble_eq_true rfl⟩ (zRecv (q := (RX10, TX10, 29)) hz (zAt.mt 0 0 rfl rfl) rfl) rfl rfl (Nat.le_of_ble_eq_true rfl) dX10_lift_40) (mM_blown ad iv g nt hnt h8) (fun H9 L9 h9 => (zPc (zAt.mt 0 0 rfl rfl) h9 (zPc (zAt.mt 1 0 rfl rfl) h9 zP0))) rfl ?_
        refine z_goto hz 47 dX10_lift_43 (by decide) ?_
        refine z_iload_n hz dX10_lift_47 2 rfl rfl ?_
        refine z_callRD (st2 := [.int (liftF g (blownF g nt) what nt)]) hz zKp.mt (zk_V hz (rm := (zRm 1 0 0 30)) (As := [.int (blownF g nt), .int what]) (rest := []) 2 q2333 q2335 qs68 q95 q2336 (by decide +kernel) ⟨Nat.le_of_ble_eq_true rfl, Nat.le_of_ble_eq_true rfl⟩ ⟨Nat.le_of_ble_eq_true rfl, Nat.le_of_ble_eq_true rfl⟩ (zRecv (q := (RX10, TX10, 29)) hz (zAt.mt 0 0 rfl rfl) rfl) rfl rfl (Nat.le_of_ble_eq_true rfl) dX10_lift_48) (mM_liftOf ad iv g nt hnt h8 (blownF g nt) what) (fun H9 L9 h9 => (zPc (zAt.mt 0 0 rfl rfl) h9 (zPc (zAt.mt 1 0 rfl rfl) h9 zP0))) rfl ?_
        exact z_iret hQ hz hr hlk dX10_lift_51 (by
          have e9 : sLift g set what = (0, liftF g (blownF g nt) what nt, g) := by simp only [sLift]; rw [hnt, tnt, ← hP2, if_pos ⟨c1, c2⟩, if_pos (Int32.not_le.mp c3)]
          rw [e9]; exact ⟨congrArg (fun z => some (Value.int z)) rOf_0.symm, rfl⟩)
    · refine z_aload_n hz dX10_lift_27 0 rfl rfl ?_
      refine z_ldc hz q2031 dX10_lift_28 ?_
      refine z_callD (bs2 := [zO (ad 99) 10 (mFs ad iv), zI (G.2.2.1 0) (ad 0) 602 g, zI (G.2.2.1 0) (ad 4) 6 (upd er 1 (er 1 + 1))]) (st2 := [.int (-1000001)]) hz hA (zk_V hz (rm := (zRm 0 0 0 0)) (As := [.int (-1000001)]) (rest := []) 1 q2032 q2034 qs35 q95 q2035 (by decide +kernel) ⟨Nat.le_of_ble_eq_true rfl, Nat.le_of_ble_eq_true rfl⟩ ⟨Nat.le_of_ble_eq_true rfl, Nat.le_of_ble_eq_true rfl⟩ (zRecv (q := (RX10, TX10, 29)) hz (zAt.mt 0 0 rfl rfl) rfl) rfl rfl (Nat.le_of_ble_eq_true rfl) dX10_lift_30) (mM_finding ad iv er (-1000001) 1 (by decide) (by decide)) [0, 2] rfl (by decide) rfl rfl ?_
      exact z_iret hQ hz hr hlk dX10_lift_33 (by
        have e9 : sLift g set what = (1, 0, g) := by simp only [sLift]; rw [hnt, tnt, ← hP2, if_neg (fun h9 => c2 h9.2)]
        rw [e9]; exact ⟨congrArg (fun z => some (Value.int z)) rE1, rfl⟩)
set_option maxHeartbeats 2000000 in
theorem mM_findMore {G : zG} (ad : Nat → Nat) (iv g : Nat → Int32) (mr : Nat → Int32) (w b : Int32) (nt : Nat) (hnt : g 4 = nI nt) (h8 : nt ≤ 8) : zMet G yX10_findMore (ws_ yX10_findMore cX10_findMore 7 none) (zRm 2 0 0 60) [.ref (ad 99), .int w, .int b] [zO (ad 99) 10 (mFs ad iv), zI (G.2.2.1 0) (ad 0) 602 g, zI (G.2.2.1 0) (ad 16) 256 mr] (fun v9 b9 => v9 = none ∧ b9 = [zO (ad 99) 10 (mFs ad iv), zI (G.2.2.1 0) (ad 0) 602 g, zI (G.2.2.1 0) (ad 16) 256 (mrS g nt w b mr (2 ^ nt))]) := by
  refine zMet.of (by decide +kernel) (Nat.le_of_ble_eq_true rfl) ?_
  intro p e s m args below meth c A hz hA hr hlk hnm9 Q hQ
  refine z_lv (lv' := [(0, .ref (ad 99)), (1, .int w), (2, .int b)]) [0, 1, 2] rfl ?_
  obtain ⟨P2, hP2⟩ : ∃ q, q = 2 ^ nt := ⟨_, rfl⟩
  have hp2 : 1 ≤ P2 ∧ P2 ≤ 256 := by rw [hP2]; exact ⟨Nat.one_le_two_pow, Nat.pow_le_pow_right (by omega) h8⟩
  refine z_iconst hz 1 dX10_findMore_0 ki_1 ?_
  refine z_aload_n hz dX10_findMore_1 0 rfl rfl ?_
  refine z_get (C := RX10) (T := TX10) (N := 29) hz in_X10 (zAt.mt 0 0 rfl rfl) rfl 0 (by decide) q1929 (fun _ h9 => h9) rfl dX10_findMore_2 ?_
  refine z_iconst hz 4 dX10_findMore_5 ki_4 ?_
  refine z_iald hz (zAt.mt 1 0 rfl rfl) kn_4 (by decide) (by decide) dX10_findMore_6 ?_
  refine z_top hnt ?_
  refine z_ishl hz dX10_findMore_7 ?_
  refine z_top (y := nI P2) ((bit_nat (by omega)).trans (by rw [hP2])) ?_
  refine z_iconst hz 1 dX10_findMore_8 ki_1 ?_
  refine z_isubN hz rfl kn_1 (by omega) dX10_findMore_9 ?_
  refine z_istore_n (lv' := [(0, .ref (ad 99)), (1, .int w), (2, .int b), (3, .int (nI (P2 - 1)))]) hz [1, 2, 3, 0] dX10_findMore_10 rfl (by decide) rfl ?_
  have lp_11 : ∀ (n9 : Nat) (d : Nat) (S : Nat) (M : Nat → Int32), d + 1 ≤ P2 → S = P2 - 1 - d → M = mrS g nt w b mr d → P2 - d < n9 → zW p G.1 e (zRm 2 0 0 60) s m args below meth c 7 Q 0 0 (zΦ G A s [zO (ad 99) 10 (mFs ad iv), zI (G.2.2.1 0) (ad 0) 602 g, zI (G.2.2.1 0) (ad 16) 256 M]) 11 [(0, .ref (ad 99)), (1, .int w), (2, .int b), (3, .int (nI S))] [] := by
    intro n9
    induction n9 with
    | zero => intro _ _ _ _ _ _ hm; exact absurd hm (Nat.not_lt_zero _)
    | succ n9 ih_11 =>
      intro d S M hd hSd hM hm_11
      refine z_iload_n hz dX10_findMore_11 3 rfl rfl ?_
      refine z_if_ltF hz 145 dX10_findMore_12 (by decide) (nI_pos (by omega)) ?_
      refine z_aload_n hz dX10_findMore_15 0 rfl rfl ?_
      refine z_get (C := RX10) (T := TX10) (N := 29) hz in_X10 (zAt.mt 0 0 rfl rfl) rfl 16 (by decide) q1945 (fun _ h9 => h9) rfl dX10_findMore_16 ?_
      refine z_iload_n hz dX10_findMore_19 3 rfl rfl ?_
      refine z_aload_n hz dX10_findMore_20 0 rfl rfl ?_
      refine z_iload_n hz dX10_findMore_21 3 rfl rfl ?_
      refine z_iconst hz 0 dX10_findMore_22 ki_0 ?_
      refine z_callRD (st2 := [.int (liftF g (nI S) 0 nt), .int (nI S), .ref (ad 16)]) hz zKp.mt (zk_V hz (rm := (zRm 1 0 0 30)) (As := [.int (nI S), .int 0]) (rest := [.int (nI S), .ref (ad 16)]) 2 q2333 q2335 qs68 q95 q2336 (by decide +kernel) ⟨Nat.le_of_ble_eq_true rfl, Nat.le_of_ble_eq_true rfl⟩ ⟨Nat.le_of_ble_eq_true rfl, Nat.le_of_ble_eq_true rfl⟩ (zRecv (q := (RX10, TX10, 29)) hz (zAt.mt 0 0 rfl rfl) rfl) rfl rfl (Nat.le_of_ble_eq_true rfl) dX10_findMore_23) (mM_liftOf ad iv g nt hnt h8 (nI S) 0) (fun H9 L9 h9 => (zPc (zAt.mt 0 0 rfl rfl) h9 (zPc (zAt.mt 1 0 rfl rfl) h9 zP0))) rfl ?_
      refine z_iload_n hz dX10_findMore_26 1 rfl rfl ?_
      refine z_icmp_lt hz 34 dX10_findMore_27 (by decide) (fun c1 => ?_) (fun c1 => ?_)
      · refine z_ldc hz q2271 dX10_findMore_34 ?_
        refine z_iast hz 2 0 rfl rfl rfl (by omega) (by decide) dX10_findMore_36 ?_
        refine z_bs (bs2 := [zO (ad 99) 10 (mFs ad iv), zI (G.2.2.1 0) (ad 0) 602 g, zI (G.2.2.1 0) (ad 16) 256 (upd M S 1000000)]) rfl ?_
        refine z_iconst hz 0 dX10_findMore_37 ki_0 ?_
        refine z_istore (lv' := [(0, .ref (ad 99)), (1, .int w), (2, .int b), (3, .int (nI S)), (4, .int 0)]) hz [1, 2, 3, 4, 0] dX10_findMore_38 (by decide) rfl ?_
        have lp_40 : ∀ (n9 : Nat) (t : Nat) (M2 : Nat → Int32), t ≤ nt → M2 = mrT g nt b S (upd M S (if liftF g (nI S) 0 nt < w then 1000000 else 0)) t → nt - t < n9 → zW p G.1 e (zRm 2 0 0 60) s m args below meth c 7 Q 0 0 (zΦ G A s [zO (ad 99) 10 (mFs ad iv), zI (G.2.2.1 0) (ad 0) 602 g, zI (G.2.2.1 0) (ad 16) 256 M2]) 40 [(0, .ref (ad 99)), (1, .int w), (2, .int b), (3, .int (nI S)), (4, .int (nI t))] [] := by
          intro n9
          induction n9 with
          | zero => intro _ _ _ _ hm; exact absurd hm (Nat.not_lt_zero _)
          | succ n9 ih_40 =>
            intro t M2 ht hM2 hm_40
            refine z_iload hz dX10_findMore_40 4 rfl ?_
            refine z_aload_n hz dX10_findMore_42 0 rfl rfl ?_
            refine z_get (C := RX10) (T := TX10) (N := 29) hz in_X10 (zAt.mt 0 0 rfl rfl) rfl 0 (by decide) q1929 (fun _ h9 => h9) rfl dX10_findMore_43 ?_
            refine z_iconst hz 4 dX10_findMore_46 ki_4 ?_
            refine z_iald hz (zAt.mt 1 0 rfl rfl) kn_4 (by decide) (by decide) dX10_findMore_47 ?_
            refine z_top hnt ?_
            refine z_icmpN_ge hz rfl rfl (by omega) (by omega) 139 dX10_findMore_48 (by decide) (fun c2 => ?_) (fun c2 => ?_)
            · have hE : mrT g nt b S (upd M S (if liftF g (nI S) 0 nt < w then 1000000 else 0)) nt = M2 := (congrArg (fun q => mrT g nt b S (upd M S (if liftF g (nI S) 0 nt < w then 1000000 else 0)) q) (show nt = t by omega)).trans hM2.symm
              by_cases hS0 : S = 0
              · refine z_lv [0, 1, 2, 3] rfl ?_
                refine z_iinc (lv' := [(0, .ref (ad 99)), (1, .int w), (2, .int b), (3, .int (-1))]) hz (-1) 3 [1, 2, 3, 0] dX10_findMore_139 rfl (by rw [hS0]; decide) (by decide) rfl ?_
                refine z_goto hz 11 dX10_findMore_142 (by decide) ?_
                refine z_iload_n hz dX10_findMore_11 3 rfl rfl ?_
                refine z_if_ltT hz 145 dX10_findMore_12 (by decide) (by decide) ?_
                exact z_vret hQ hz hr hlk dX10_findMore_145 ⟨rfl, by rw [← hP2, show P2 = d + 1 by omega]; simp only [mrS]; rw [← hP2, show P2 - 1 - d = S by omega, ← hM, hE]⟩
              · refine z_lv [0, 1, 2, 3] rfl ?_
                refine z_iinc (lv' := [(0, .ref (ad 99)), (1, .int w), (2, .int b), (3, .int (nI (S - 1)))]) hz (nI (S - 1)) 3 [1, 2, 3, 0] dX10_findMore_139 rfl (nI_decp (by omega)) (by decide) rfl ?_
                refine z_goto hz 11 dX10_findMore_142 (by decide) ?_
                exact ih_11 (d + 1) (S - 1) M2 (by omega) (by omega) (by simp only [mrS]; rw [← hP2, show P2 - 1 - d = S by omega, ← hM, hE]) (by omega)
            · refine z_aload_n hz dX10_findMore_51 0 rfl rfl ?_
              refine z_get (C := RX10) (T := TX10) (N := 29) hz in_X10 (zAt.mt 0 0 rfl rfl) rfl 16 (by decide) q1945 (fun _ h9 => h9) rfl dX10_findMore_52 ?_
              refine z_iload_n hz dX10_findMore_55 3 rfl rfl ?_
              refine z_iald hz (zAt.mt 2 0 rfl rfl) rfl (by omega) (by decide) dX10_findMore_56 ?_
              refine z_if_le hz 139 dX10_findMore_57 (by decide) (fun c3 => ?_) (fun c3 => ?_)
              · have hE : mrT g nt b S (upd M S (if liftF g (nI S) 0 nt < w then 1000000 else 0)) nt = M2 := (congrArg (fun q => mrT g nt b S (upd M S (if liftF g (nI S) 0 nt < w then 1000000 else 0)) q) (show nt = t + (nt - t) by omega)).trans ((mrT_full (by rw [← hM2]; exact Int32.not_lt.mpr c3) _).trans hM2.symm)
                by_cases hS0 : S = 0
                · refine z_lv [0, 1, 2, 3] rfl ?_
                  refine z_iinc (lv' := [(0, .ref (ad 99)), (1, .int w), (2, .int b), (3, .int (-1))]) hz (-1) 3 [1, 2, 3, 0] dX10_findMore_139 rfl (by rw [hS0]; decide) (by decide) rfl ?_
                  refine z_goto hz 11 dX10_findMore_142 (by decide) ?_
                  refine z_iload_n hz dX10_findMore_11 3 rfl rfl ?_
                  refine z_if_ltT hz 145 dX10_findMore_12 (by decide) (by decide) ?_
                  exact z_vret hQ hz hr hlk dX10_findMore_145 ⟨rfl, by rw [← hP2, show P2 = d + 1 by omega]; simp only [mrS]; rw [← hP2, show P2 - 1 - d = S by omega, ← hM, hE]⟩
                · refine z_lv [0, 1, 2, 3] rfl ?_
                  refine z_iinc (lv' := [(0, .ref (ad 99)), (1, .int w), (2, .int b), (3, .int (nI (S - 1)))]) hz (nI (S - 1)) 3 [1, 2, 3, 0] dX10_findMore_139 rfl (nI_decp (by omega)) (by decide) rfl ?_
                  refine z_goto hz 11 dX10_findMore_142 (by decide) ?_
                  exact ih_11 (d + 1) (S - 1) M2 (by omega) (by omega) (by simp only [mrS]; rw [← hP2, show P2 - 1 - d = S by omega, ← hM, hE]) (by omega)
              · refine z_iload_n hz dX10_findMore_60 3 rfl rfl ?_
                refine z_iconst hz 1 dX10_findMore_61 ki_1 ?_
                refine z_iload hz dX10_findMore_62 4 rfl ?_
                refine z_ishl hz dX10_findMore_64 ?_
                refine z_ior hz dX10_findMore_65 ?_
                have hor := or_nat (S := S) (t := t) (n := nt) (by omega) (by rw [← hP2]; omega) (by omega)
                rw [← hP2] at hor
                refine z_top hor.1 ?_
                refine z_istore (lv' := [(0, .ref (ad 99)), (1, .int w), (2, .int b), (3, .int (nI S)), (4, .int (nI t)), (5, .int (nI (S ||| 2 ^ t)))]) hz [1, 2, 3, 4, 5, 0] dX10_findMore_66 (by decide) rfl ?_
                refine z_iload hz dX10_findMore_68 5 rfl ?_
                refine z_iload_n hz dX10_findMore_70 3 rfl rfl ?_
                refine z_icmpN_eq hz rfl rfl (by omega) (by omega) 92 dX10_findMore_71 (by decide) (fun c4 => ?_) (fun c4 => ?_)
                · refine z_iconst hz 0 dX10_findMore_92 ki_0 ?_
                  refine z_istore (lv' := [(0, .ref (ad 99)), (1, .int w), (2, .int b), (3, .int (nI S)), (4, .int (nI t)), (5, .int (nI (S ||| 2 ^ t))), (6, .int 0)]) hz [1, 2, 3, 4, 5, 6, 0] dX10_findMore_93 (by decide) rfl ?_
                  refine z_aload_n hz dX10_findMore_95 0 rfl rfl ?_
                  refine z_get (C := RX10) (T := TX10) (N := 29) hz in_X10 (zAt.mt 0 0 rfl rfl) rfl 16 (by decide) q1945 (fun _ h9 => h9) rfl dX10_findMore_96 ?_
                  refine z_iload_n hz dX10_findMore_99 3 rfl rfl ?_
                  refine z_iload hz dX10_findMore_100 6 rfl ?_
                  refine z_if_eqT hz 126 dX10_findMore_102 (by decide) (by decide) ?_
                  refine z_aload_n hz dX10_findMore_126 0 rfl rfl ?_
                  refine z_get (C := RX10) (T := TX10) (N := 29) hz in_X10 (zAt.mt 0 0 rfl rfl) rfl 16 (by decide) q1945 (fun _ h9 => h9) rfl dX10_findMore_127 ?_
                  refine z_iload_n hz dX10_findMore_130 3 rfl rfl ?_
                  refine z_iald hz (zAt.mt 2 0 rfl rfl) rfl (by omega) (by decide) dX10_findMore_131 ?_
                  refine z_iast hz 2 0 rfl rfl rfl (by omega) (by decide) dX10_findMore_132 ?_
                  refine z_bs (bs2 := [zO (ad 99) 10 (mFs ad iv), zI (G.2.2.1 0) (ad 0) 602 g, zI (G.2.2.1 0) (ad 16) 256 (upd M2 S (M2 S))]) rfl ?_
                  refine z_iinc (lv' := [(0, .ref (ad 99)), (1, .int w), (2, .int b), (3, .int (nI S)), (4, .int (nI (t + 1))), (5, .int (nI (S ||| 2 ^ t))), (6, .int 0)]) hz (nI (t + 1)) 4 [1, 2, 3, 4, 0, 5, 6] dX10_findMore_133 rfl (nI_1 _) (by decide) rfl ?_
                  refine z_goto hz 40 dX10_findMore_136 (by decide) ?_
                  refine z_lv [0, 1, 2, 3, 4] rfl ?_
                  exact ih_40 (t + 1) (upd M2 S (M2 S)) (by omega) (by simp only [mrT]; rw [← hM2, if_pos (Int32.not_le.mp c3), if_neg (fun h9 => h9.1 c4)]) (by omega)
                · refine z_aload_n hz dX10_findMore_74 0 rfl rfl ?_
                  refine z_iload hz dX10_findMore_75 5 rfl ?_
                  refine z_iconst hz 1 dX10_findMore_77 ki_1 ?_
                  refine z_callRD (st2 := [.int (liftF g (nI (S ||| 2 ^ t)) 1 nt)]) hz zKp.mt (zk_V hz (rm := (zRm 1 0 0 30)) (As := [.int (nI (S ||| 2 ^ t)), .int 1]) (rest := []) 2 q2333 q2335 qs68 q95 q2336 (by decide +kernel) ⟨Nat.le_of_ble_eq_true rfl, Nat.le_of_ble_eq_true rfl⟩ ⟨Nat.le_of_ble_eq_true rfl, Nat.le_of_ble_eq_true rfl⟩ (zRecv (q := (RX10, TX10, 29)) hz (zAt.mt 0 0 rfl rfl) rfl) rfl rfl (Nat.le_of_ble_eq_true rfl) dX10_findMore_78) (mM_liftOf ad iv g nt hnt h8 (nI (S ||| 2 ^ t)) 1) (fun H9 L9 h9 => (zPc (zAt.mt 0 0 rfl rfl) h9 (zPc (zAt.mt 1 0 rfl rfl) h9 zP0))) rfl ?_
                  refine z_mabs hz q2345 (Nat.le_of_ble_eq_true rfl) (Nat.le_of_ble_eq_true rfl) ⟨Nat.le_of_ble_eq_true rfl, Nat.le_of_ble_eq_true rfl⟩ dX10_findMore_81 ?_
                  refine z_iload_n hz dX10_findMore_84 2 rfl rfl ?_
                  refine z_icmp_gt hz 92 dX10_findMore_85 (by decide) (fun c5 => ?_) (fun c5 => ?_)
                  · refine z_iconst hz 0 dX10_findMore_92 ki_0 ?_
                    refine z_istore (lv' := [(0, .ref (ad 99)), (1, .int w), (2, .int b), (3, .int (nI S)), (4, .int (nI t)), (5, .int (nI (S ||| 2 ^ t))), (6, .int 0)]) hz [1, 2, 3, 4, 5, 6, 0] dX10_findMore_93 (by decide) rfl ?_
                    refine z_aload_n hz dX10_findMore_95 0 rfl rfl ?_
                    refine z_get (C := RX10) (T := TX10) (N := 29) hz in_X10 (zAt.mt 0 0 rfl rfl) rfl 16 (by decide) q1945 (fun _ h9 => h9) rfl dX10_findMore_96 ?_
                    refine z_iload_n hz dX10_findMore_99 3 rfl rfl ?_
                    refine z_iload hz dX10_findMore_100 6 rfl ?_
                    refine z_if_eqT hz 126 dX10_findMore_102 (by decide) (by decide) ?_
                    refine z_aload_n hz dX10_findMore_126 0 rfl rfl ?_
                    refine z_get (C := RX10) (T := TX10) (N := 29) hz in_X10 (zAt.mt 0 0 rfl rfl) rfl 16 (by decide) q1945 (fun _ h9 => h9) rfl dX10_findMore_127 ?_
                    refine z_iload_n hz dX10_findMore_130 3 rfl rfl ?_
                    refine z_iald hz (zAt.mt 2 0 rfl rfl) rfl (by omega) (by decide) dX10_findMore_131 ?_
                    refine z_iast hz 2 0 rfl rfl rfl (by omega) (by decide) dX10_findMore_132 ?_
                    refine z_bs (bs2 := [zO (ad 99) 10 (mFs ad iv), zI (G.2.2.1 0) (ad 0) 602 g, zI (G.2.2.1 0) (ad 16) 256 (upd M2 S (M2 S))]) rfl ?_
                    refine z_iinc (lv' := [(0, .ref (ad 99)), (1, .int w), (2, .int b), (3, .int (nI S)), (4, .int (nI (t + 1))), (5, .int (nI (S ||| 2 ^ t))), (6, .int 0)]) hz (nI (t + 1)) 4 [1, 2, 3, 4, 0, 5, 6] dX10_findMore_133 rfl (nI_1 _) (by decide) rfl ?_
                    refine z_goto hz 40 dX10_findMore_136 (by decide) ?_
                    refine z_lv [0, 1, 2, 3, 4] rfl ?_
                    exact ih_40 (t + 1) (upd M2 S (M2 S)) (by omega) (by simp only [mrT]; rw [← hM2, if_pos (Int32.not_le.mp c3), if_neg (fun h9 => Int32.not_le.mpr c5 h9.2)]) (by omega)
                  · refine z_iconst hz 1 dX10_findMore_88 ki_1 ?_
                    refine z_goto hz 93 dX10_findMore_89 (by decide) ?_
                    refine z_istore (lv' := [(0, .ref (ad 99)), (1, .int w), (2, .int b), (3, .int (nI S)), (4, .int (nI t)), (5, .int (nI (S ||| 2 ^ t))), (6, .int 1)]) hz [1, 2, 3, 4, 5, 6, 0] dX10_findMore_93 (by decide) rfl ?_
                    refine z_aload_n hz dX10_findMore_95 0 rfl rfl ?_
                    refine z_get (C := RX10) (T := TX10) (N := 29) hz in_X10 (zAt.mt 0 0 rfl rfl) rfl 16 (by decide) q1945 (fun _ h9 => h9) rfl dX10_findMore_96 ?_
                    refine z_iload_n hz dX10_findMore_99 3 rfl rfl ?_
                    refine z_iload hz dX10_findMore_100 6 rfl ?_
                    refine z_if_eqF hz 126 dX10_findMore_102 (by decide) (by decide) ?_
                    refine z_aload_n hz dX10_findMore_105 0 rfl rfl ?_
                    refine z_get (C := RX10) (T := TX10) (N := 29) hz in_X10 (zAt.mt 0 0 rfl rfl) rfl 16 (by decide) q1945 (fun _ h9 => h9) rfl dX10_findMore_106 ?_
                    refine z_iload_n hz dX10_findMore_109 3 rfl rfl ?_
                    refine z_iald hz (zAt.mt 2 0 rfl rfl) rfl (by omega) (by decide) dX10_findMore_110 ?_
                    refine z_aload_n hz dX10_findMore_111 0 rfl rfl ?_
                    refine z_get (C := RX10) (T := TX10) (N := 29) hz in_X10 (zAt.mt 0 0 rfl rfl) rfl 16 (by decide) q1945 (fun _ h9 => h9) rfl dX10_findMore_112 ?_
                    refine z_iload hz dX10_findMore_115 5 rfl ?_
                    refine z_iald hz (zAt.mt 2 0 rfl rfl) rfl (by omega) (by decide) dX10_findMore_117 ?_
                    refine z_iconst hz 1 dX10_findMore_118 ki_1 ?_
                    refine z_iadd hz dX10_findMore_119 ?_
                    refine z_mmin hz q2112 (Nat.le_of_ble_eq_true rfl) (Nat.le_of_ble_eq_true rfl) ⟨Nat.le_of_ble_eq_true rfl, Nat.le_of_ble_eq_true rfl⟩ dX10_findMore_120 ?_
                    refine z_goto hz 132 dX10_findMore_123 (by decide) ?_
                    refine z_iast hz 2 0 rfl rfl rfl (by omega) (by decide) dX10_findMore_132 ?_
                    refine z_bs (bs2 := [zO (ad 99) 10 (mFs ad iv), zI (G.2.2.1 0) (ad 0) 602 g, zI (G.2.2.1 0) (ad 16) 256 (upd M2 S (minI (M2 S) ((M2 (S ||| 2 ^ t)) + 1)))]) rfl ?_
                    refine z_iinc (lv' := [(0, .ref (ad 99)), (1, .int w), (2, .int b), (3, .int (nI S)), (4, .int (nI (t + 1))), (5, .int (nI (S ||| 2 ^ t))), (6, .int 1)]) hz (nI (t + 1)) 4 [1, 2, 3, 4, 0, 5, 6] dX10_findMore_133 rfl (nI_1 _) (by decide) rfl ?_
                    refine z_goto hz 40 dX10_findMore_136 (by decide) ?_
                    refine z_lv [0, 1, 2, 3, 4] rfl ?_
                    exact ih_40 (t + 1) (upd M2 S (minI (M2 S) ((M2 (S ||| 2 ^ t)) + 1))) (by omega) (by simp only [mrT]; rw [← hM2, if_pos (Int32.not_le.mp c3), if_pos ⟨c4, Int32.not_lt.mp c5⟩]) (by omega)
        exact lp_40 ((nt - 0) + 1) 0 (upd M S 1000000) (Nat.zero_le _) (by rw [if_pos c1]; rfl) (Nat.lt_succ_self _)
      · refine z_iconst hz 0 dX10_findMore_30 ki_0 ?_
        refine z_goto hz 36 dX10_findMore_31 (by decide) ?_
        refine z_iast hz 2 0 rfl rfl rfl (by omega) (by decide) dX10_findMore_36 ?_
        refine z_bs (bs2 := [zO (ad 99) 10 (mFs ad iv), zI (G.2.2.1 0) (ad 0) 602 g, zI (G.2.2.1 0) (ad 16) 256 (upd M S 0)]) rfl ?_
        refine z_iconst hz 0 dX10_findMore_37 ki_0 ?_
        refine z_istore (lv' := [(0, .ref (ad 99)), (1, .int w), (2, .int b), (3, .int (nI S)), (4, .int 0)]) hz [1, 2, 3, 4, 0] dX10_findMore_38 (by decide) rfl ?_
        have lp_40 : ∀ (n9 : Nat) (t : Nat) (M2 : Nat → Int32), t ≤ nt → M2 = mrT g nt b S (upd M S (if liftF g (nI S) 0 nt < w then 1000000 else 0)) t → nt - t < n9 → zW p G.1 e (zRm 2 0 0 60) s m args below meth c 7 Q 0 0 (zΦ G A s [zO (ad 99) 10 (mFs ad iv), zI (G.2.2.1 0) (ad 0) 602 g, zI (G.2.2.1 0) (ad 16) 256 M2]) 40 [(0, .ref (ad 99)), (1, .int w), (2, .int b), (3, .int (nI S)), (4, .int (nI t))] [] := by
          intro n9
          induction n9 with
          | zero => intro _ _ _ _ hm; exact absurd hm (Nat.not_lt_zero _)
          | succ n9 ih_40 =>
            intro t M2 ht hM2 hm_40
            refine z_iload hz dX10_findMore_40 4 rfl ?_
            refine z_aload_n hz dX10_findMore_42 0 rfl rfl ?_
            refine z_get (C := RX10) (T := TX10) (N := 29) hz in_X10 (zAt.mt 0 0 rfl rfl) rfl 0 (by decide) q1929 (fun _ h9 => h9) rfl dX10_findMore_43 ?_
            refine z_iconst hz 4 dX10_findMore_46 ki_4 ?_
            refine z_iald hz (zAt.mt 1 0 rfl rfl) kn_4 (by decide) (by decide) dX10_findMore_47 ?_
            refine z_top hnt ?_
            refine z_icmpN_ge hz rfl rfl (by omega) (by omega) 139 dX10_findMore_48 (by decide) (fun c6 => ?_) (fun c6 => ?_)
            · have hE : mrT g nt b S (upd M S (if liftF g (nI S) 0 nt < w then 1000000 else 0)) nt = M2 := (congrArg (fun q => mrT g nt b S (upd M S (if liftF g (nI S) 0 nt < w then 1000000 else 0)) q) (show nt = t by omega)).trans hM2.symm
              by_cases hS0 : S = 0
              · refine z_lv [0, 1, 2, 3] rfl ?_
                refine z_iinc (lv' := [(0, .ref (ad 99)), (1, .int w), (2, .int b), (3, .int (-1))]) hz (-1) 3 [1, 2, 3, 0] dX10_findMore_139 rfl (by rw [hS0]; decide) (by decide) rfl ?_
                refine z_goto hz 11 dX10_findMore_142 (by decide) ?_
                refine z_iload_n hz dX10_findMore_11 3 rfl rfl ?_
                refine z_if_ltT hz 145 dX10_findMore_12 (by decide) (by decide) ?_
                exact z_vret hQ hz hr hlk dX10_findMore_145 ⟨rfl, by rw [← hP2, show P2 = d + 1 by omega]; simp only [mrS]; rw [← hP2, show P2 - 1 - d = S by omega, ← hM, hE]⟩
              · refine z_lv [0, 1, 2, 3] rfl ?_
                refine z_iinc (lv' := [(0, .ref (ad 99)), (1, .int w), (2, .int b), (3, .int (nI (S - 1)))]) hz (nI (S - 1)) 3 [1, 2, 3, 0] dX10_findMore_139 rfl (nI_decp (by omega)) (by decide) rfl ?_
                refine z_goto hz 11 dX10_findMore_142 (by decide) ?_
                exact ih_11 (d + 1) (S - 1) M2 (by omega) (by omega) (by simp only [mrS]; rw [← hP2, show P2 - 1 - d = S by omega, ← hM, hE]) (by omega)
            · refine z_aload_n hz dX10_findMore_51 0 rfl rfl ?_
              refine z_get (C := RX10) (T := TX10) (N := 29) hz in_X10 (zAt.mt 0 0 rfl rfl) rfl 16 (by decide) q1945 (fun _ h9 => h9) rfl dX10_findMore_52 ?_
              refine z_iload_n hz dX10_findMore_55 3 rfl rfl ?_
              refine z_iald hz (zAt.mt 2 0 rfl rfl) rfl (by omega) (by decide) dX10_findMore_56 ?_
              refine z_if_le hz 139 dX10_findMore_57 (by decide) (fun c7 => ?_) (fun c7 => ?_)
              · have hE : mrT g nt b S (upd M S (if liftF g (nI S) 0 nt < w then 1000000 else 0)) nt = M2 := (congrArg (fun q => mrT g nt b S (upd M S (if liftF g (nI S) 0 nt < w then 1000000 else 0)) q) (show nt = t + (nt - t) by omega)).trans ((mrT_full (by rw [← hM2]; exact Int32.not_lt.mpr c7) _).trans hM2.symm)
                by_cases hS0 : S = 0
                · refine z_lv [0, 1, 2, 3] rfl ?_
                  refine z_iinc (lv' := [(0, .ref (ad 99)), (1, .int w), (2, .int b), (3, .int (-1))]) hz (-1) 3 [1, 2, 3, 0] dX10_findMore_139 rfl (by rw [hS0]; decide) (by decide) rfl ?_
                  refine z_goto hz 11 dX10_findMore_142 (by decide) ?_
                  refine z_iload_n hz dX10_findMore_11 3 rfl rfl ?_
                  refine z_if_ltT hz 145 dX10_findMore_12 (by decide) (by decide) ?_
                  exact z_vret hQ hz hr hlk dX10_findMore_145 ⟨rfl, by rw [← hP2, show P2 = d + 1 by omega]; simp only [mrS]; rw [← hP2, show P2 - 1 - d = S by omega, ← hM, hE]⟩
                · refine z_lv [0, 1, 2, 3] rfl ?_
                  refine z_iinc (lv' := [(0, .ref (ad 99)), (1, .int w), (2, .int b), (3, .int (nI (S - 1)))]) hz (nI (S - 1)) 3 [1, 2, 3, 0] dX10_findMore_139 rfl (nI_decp (by omega)) (by decide) rfl ?_
                  refine z_goto hz 11 dX10_findMore_142 (by decide) ?_
                  exact ih_11 (d + 1) (S - 1) M2 (by omega) (by omega) (by simp only [mrS]; rw [← hP2, show P2 - 1 - d = S by omega, ← hM, hE]) (by omega)
              · refine z_iload_n hz dX10_findMore_60 3 rfl rfl ?_
                refine z_iconst hz 1 dX10_findMore_61 ki_1 ?_
                refine z_iload hz dX10_findMore_62 4 rfl ?_
                refine z_ishl hz dX10_findMore_64 ?_
                refine z_ior hz dX10_findMore_65 ?_
                have hor := or_nat (S := S) (t := t) (n := nt) (by omega) (by rw [← hP2]; omega) (by omega)
                rw [← hP2] at hor
                refine z_top hor.1 ?_
                refine z_istore (lv' := [(0, .ref (ad 99)), (1, .int w), (2, .int b), (3, .int (nI S)), (4, .int (nI t)), (5, .int (nI (S ||| 2 ^ t)))]) hz [1, 2, 3, 4, 5, 0] dX10_findMore_66 (by decide) rfl ?_
                refine z_iload hz dX10_findMore_68 5 rfl ?_
                refine z_iload_n hz dX10_findMore_70 3 rfl rfl ?_
                refine z_icmpN_eq hz rfl rfl (by omega) (by omega) 92 dX10_findMore_71 (by decide) (fun c8 => ?_) (fun c8 => ?_)
                · refine z_iconst hz 0 dX10_findMore_92 ki_0 ?_
                  refine z_istore (lv' := [(0, .ref (ad 99)), (1, .int w), (2, .int b), (3, .int (nI S)), (4, .int (nI t)), (5, .int (nI (S ||| 2 ^ t))), (6, .int 0)]) hz [1, 2, 3, 4, 5, 6, 0] dX10_findMore_93 (by decide) rfl ?_
                  refine z_aload_n hz dX10_findMore_95 0 rfl rfl ?_
                  refine z_get (C := RX10) (T := TX10) (N := 29) hz in_X10 (zAt.mt 0 0 rfl rfl) rfl 16 (by decide) q1945 (fun _ h9 => h9) rfl dX10_findMore_96 ?_
                  refine z_iload_n hz dX10_findMore_99 3 rfl rfl ?_
                  refine z_iload hz dX10_findMore_100 6 rfl ?_
                  refine z_if_eqT hz 126 dX10_findMore_102 (by decide) (by decide) ?_
                  refine z_aload_n hz dX10_findMore_126 0 rfl rfl ?_
                  refine z_get (C := RX10) (T := TX10) (N := 29) hz in_X10 (zAt.mt 0 0 rfl rfl) rfl 16 (by decide) q1945 (fun _ h9 => h9) rfl dX10_findMore_127 ?_
                  refine z_iload_n hz dX10_findMore_130 3 rfl rfl ?_
                  refine z_iald hz (zAt.mt 2 0 rfl rfl) rfl (by omega) (by decide) dX10_findMore_131 ?_
                  refine z_iast hz 2 0 rfl rfl rfl (by omega) (by decide) dX10_findMore_132 ?_
                  refine z_bs (bs2 := [zO (ad 99) 10 (mFs ad iv), zI (G.2.2.1 0) (ad 0) 602 g, zI (G.2.2.1 0) (ad 16) 256 (upd M2 S (M2 S))]) rfl ?_
                  refine z_iinc (lv' := [(0, .ref (ad 99)), (1, .int w), (2, .int b), (3, .int (nI S)), (4, .int (nI (t + 1))), (5, .int (nI (S ||| 2 ^ t))), (6, .int 0)]) hz (nI (t + 1)) 4 [1, 2, 3, 4, 0, 5, 6] dX10_findMore_133 rfl (nI_1 _) (by decide) rfl ?_
                  refine z_goto hz 40 dX10_findMore_136 (by decide) ?_
                  refine z_lv [0, 1, 2, 3, 4] rfl ?_
                  exact ih_40 (t + 1) (upd M2 S (M2 S)) (by omega) (by simp only [mrT]; rw [← hM2, if_pos (Int32.not_le.mp c7), if_neg (fun h9 => h9.1 c8)]) (by omega)
                · refine z_aload_n hz dX10_findMore_74 0 rfl rfl ?_
                  refine z_iload hz dX10_findMore_75 5 rfl ?_
                  refine z_iconst hz 1 dX10_findMore_77 ki_1 ?_
                  refine z_callRD (st2 := [.int (liftF g (nI (S ||| 2 ^ t)) 1 nt)]) hz zKp.mt (zk_V hz (rm := (zRm 1 0 0 30)) (As := [.int (nI (S ||| 2 ^ t)), .int 1]) (rest := []) 2 q2333 q2335 qs68 q95 q2336 (by decide +kernel) ⟨Nat.le_of_ble_eq_true rfl, Nat.le_of_ble_eq_true rfl⟩ ⟨Nat.le_of_ble_eq_true rfl, Nat.le_of_ble_eq_true rfl⟩ (zRecv (q := (RX10, TX10, 29)) hz (zAt.mt 0 0 rfl rfl) rfl) rfl rfl (Nat.le_of_ble_eq_true rfl) dX10_findMore_78) (mM_liftOf ad iv g nt hnt h8 (nI (S ||| 2 ^ t)) 1) (fun H9 L9 h9 => (zPc (zAt.mt 0 0 rfl rfl) h9 (zPc (zAt.mt 1 0 rfl rfl) h9 zP0))) rfl ?_
                  refine z_mabs hz q2345 (Nat.le_of_ble_eq_true rfl) (Nat.le_of_ble_eq_true rfl) ⟨Nat.le_of_ble_eq_true rfl, Nat.le_of_ble_eq_true rfl⟩ dX10_findMore_81 ?_
                  refine z_iload_n hz dX10_findMore_84 2 rfl rfl ?_
                  refine z_icmp_gt hz 92 dX10_findMore_85 (by decide) (fun c9 => ?_) (fun c9 => ?_)
                  · refine z_iconst hz 0 dX10_findMore_92 ki_0 ?_
                    refine z_istore (lv' := [(0, .ref (ad 99)), (1, .int w), (2, .int b), (3, .int (nI S)), (4, .int (nI t)), (5, .int (nI (S ||| 2 ^ t))), (6, .int 0)]) hz [1, 2, 3, 4, 5, 6, 0] dX10_findMore_93 (by decide) rfl ?_
                    refine z_aload_n hz dX10_findMore_95 0 rfl rfl ?_
                    refine z_get (C := RX10) (T := TX10) (N := 29) hz in_X10 (zAt.mt 0 0 rfl rfl) rfl 16 (by decide) q1945 (fun _ h9 => h9) rfl dX10_findMore_96 ?_
                    refine z_iload_n hz dX10_findMore_99 3 rfl rfl ?_
                    refine z_iload hz dX10_findMore_100 6 rfl ?_
                    refine z_if_eqT hz 126 dX10_findMore_102 (by decide) (by decide) ?_
                    refine z_aload_n hz dX10_findMore_126 0 rfl rfl ?_
                    refine z_get (C := RX10) (T := TX10) (N := 29) hz in_X10 (zAt.mt 0 0 rfl rfl) rfl 16 (by decide) q1945 (fun _ h9 => h9) rfl dX10_findMore_127 ?_
                    refine z_iload_n hz dX10_findMore_130 3 rfl rfl ?_
                    refine z_iald hz (zAt.mt 2 0 rfl rfl) rfl (by omega) (by decide) dX10_findMore_131 ?_
                    refine z_iast hz 2 0 rfl rfl rfl (by omega) (by decide) dX10_findMore_132 ?_
                    refine z_bs (bs2 := [zO (ad 99) 10 (mFs ad iv), zI (G.2.2.1 0) (ad 0) 602 g, zI (G.2.2.1 0) (ad 16) 256 (upd M2 S (M2 S))]) rfl ?_
                    refine z_iinc (lv' := [(0, .ref (ad 99)), (1, .int w), (2, .int b), (3, .int (nI S)), (4, .int (nI (t + 1))), (5, .int (nI (S ||| 2 ^ t))), (6, .int 0)]) hz (nI (t + 1)) 4 [1, 2, 3, 4, 0, 5, 6] dX10_findMore_133 rfl (nI_1 _) (by decide) rfl ?_
                    refine z_goto hz 40 dX10_findMore_136 (by decide) ?_
                    refine z_lv [0, 1, 2, 3, 4] rfl ?_
                    exact ih_40 (t + 1) (upd M2 S (M2 S)) (by omega) (by simp only [mrT]; rw [← hM2, if_pos (Int32.not_le.mp c7), if_neg (fun h9 => Int32.not_le.mpr c9 h9.2)]) (by omega)
                  · refine z_iconst hz 1 dX10_findMore_88 ki_1 ?_
                    refine z_goto hz 93 dX10_findMore_89 (by decide) ?_
                    refine z_istore (lv' := [(0, .ref (ad 99)), (1, .int w), (2, .int b), (3, .int (nI S)), (4, .int (nI t)), (5, .int (nI (S ||| 2 ^ t))), (6, .int 1)]) hz [1, 2, 3, 4, 5, 6, 0] dX10_findMore_93 (by decide) rfl ?_
                    refine z_aload_n hz dX10_findMore_95 0 rfl rfl ?_
                    refine z_get (C := RX10) (T := TX10) (N := 29) hz in_X10 (zAt.mt 0 0 rfl rfl) rfl 16 (by decide) q1945 (fun _ h9 => h9) rfl dX10_findMore_96 ?_
                    refine z_iload_n hz dX10_findMore_99 3 rfl rfl ?_
                    refine z_iload hz dX10_findMore_100 6 rfl ?_
                    refine z_if_eqF hz 126 dX10_findMore_102 (by decide) (by decide) ?_
                    refine z_aload_n hz dX10_findMore_105 0 rfl rfl ?_
                    refine z_get (C := RX10) (T := TX10) (N := 29) hz in_X10 (zAt.mt 0 0 rfl rfl) rfl 16 (by decide) q1945 (fun _ h9 => h9) rfl dX10_findMore_106 ?_
                    refine z_iload_n hz dX10_findMore_109 3 rfl rfl ?_
                    refine z_iald hz (zAt.mt 2 0 rfl rfl) rfl (by omega) (by decide) dX10_findMore_110 ?_
                    refine z_aload_n hz dX10_findMore_111 0 rfl rfl ?_
                    refine z_get (C := RX10) (T := TX10) (N := 29) hz in_X10 (zAt.mt 0 0 rfl rfl) rfl 16 (by decide) q1945 (fun _ h9 => h9) rfl dX10_findMore_112 ?_
                    refine z_iload hz dX10_findMore_115 5 rfl ?_
                    refine z_iald hz (zAt.mt 2 0 rfl rfl) rfl (by omega) (by decide) dX10_findMore_117 ?_
                    refine z_iconst hz 1 dX10_findMore_118 ki_1 ?_
                    refine z_iadd hz dX10_findMore_119 ?_
                    refine z_mmin hz q2112 (Nat.le_of_ble_eq_true rfl) (Nat.le_of_ble_eq_true rfl) ⟨Nat.le_of_ble_eq_true rfl, Nat.le_of_ble_eq_true rfl⟩ dX10_findMore_120 ?_
                    refine z_goto hz 132 dX10_findMore_123 (by decide) ?_
                    refine z_iast hz 2 0 rfl rfl rfl (by omega) (by decide) dX10_findMore_132 ?_
                    refine z_bs (bs2 := [zO (ad 99) 10 (mFs ad iv), zI (G.2.2.1 0) (ad 0) 602 g, zI (G.2.2.1 0) (ad 16) 256 (upd M2 S (minI (M2 S) ((M2 (S ||| 2 ^ t)) + 1)))]) rfl ?_
                    refine z_iinc (lv' := [(0, .ref (ad 99)), (1, .int w), (2, .int b), (3, .int (nI S)), (4, .int (nI (t + 1))), (5, .int (nI (S ||| 2 ^ t))), (6, .int 1)]) hz (nI (t + 1)) 4 [1, 2, 3, 4, 0, 5, 6] dX10_findMore_133 rfl (nI_1 _) (by decide) rfl ?_
                    refine z_goto hz 40 dX10_findMore_136 (by decide) ?_
                    refine z_lv [0, 1, 2, 3, 4] rfl ?_
                    exact ih_40 (t + 1) (upd M2 S (minI (M2 S) ((M2 (S ||| 2 ^ t)) + 1))) (by omega) (by simp only [mrT]; rw [← hM2, if_pos (Int32.not_le.mp c7), if_pos ⟨c8, Int32.not_lt.mp c9⟩]) (by omega)
        exact lp_40 ((nt - 0) + 1) 0 (upd M S 0) (Nat.zero_le _) (by rw [if_neg c1]; rfl) (Nat.lt_succ_self _)
  exact lp_11 ((P2 - 0) + 1) 0 (P2 - 1) mr (by omega) rfl rfl (Nat.lt_succ_self _)
set_option maxHeartbeats 2000000 in
theorem mM_raise {G : zG} (ad : Nat → Nat) (iv g er : Nat → Int32) (mr : Nat → Int32) (w : Int32) (b : Int32) (ii : Int32) (nt : Nat) (hnt : g 4 = nI nt) (h8 : nt ≤ 8) (B : Nat) (hB : blownF g nt = nI B) (hB2 : B < 2 ^ nt) (hraise : raiseOk g (tN (g 4)) b (mrF g mr w b) (blN g)) : zMet G yX10_raise (ws_ yX10_raise cX10_raise 7 (some .int)) (zRm 3 0 0 90) [.ref (ad 99), .int w, .int b, .int ii] [zO (ad 99) 10 (mFs ad iv), zI (G.2.2.1 0) (ad 0) 602 g, zI (G.2.2.1 0) (ad 4) 6 er, zI (G.2.2.1 0) (ad 16) 256 mr] (fun v9 b9 => v9 = some (.int (rOf (sRaise g mr w b ii))) ∧ ∃ mr9 : Nat → Int32, b9 = [zO (ad 99) 10 (mFs ad iv), zI (G.2.2.1 0) (ad 0) 602 ((sRaise g mr w b ii).2.2), zI (G.2.2.1 0) (ad 4) 6 (eOf er (sRaise g mr w b ii)), zI (G.2.2.1 0) (ad 16) 256 mr9]) := by
  refine zMet.of (by decide +kernel) (Nat.le_of_ble_eq_true rfl) ?_
  intro p e s m args below meth c A hz hA hr hlk hnm9 Q hQ
  refine z_lv (lv' := [(0, .ref (ad 99)), (1, .int w), (2, .int b), (3, .int ii)]) [0, 1, 2, 3] rfl ?_
  have tnt : tN (nI nt) = nt := nI_clamp (by omega)
  obtain ⟨P2, hP2⟩ : ∃ q, q = 2 ^ nt := ⟨_, rfl⟩
  have hp2 : 1 ≤ P2 ∧ P2 ≤ 256 := by rw [hP2]; exact ⟨Nat.one_le_two_pow, Nat.pow_le_pow_right (by omega) h8⟩
  rw [← hP2] at hB2
  have tB : tN (nI B) = B := nI_clamp (by omega)
  refine z_iload_n hz dX10_raise_0 1 rfl rfl ?_
  refine z_iconst hz 0 dX10_raise_1 ki_0 ?_
  refine z_sipush hz 400 dX10_raise_2 ks_400 ?_
  refine z_callRD (st2 := [.int (zB (inR w 0 400))]) hz zKp.mt (zk_S hz (rm := (zRm 0 0 0 0)) (As := [.int w, .int 0, .int 400]) (rest := []) 3 q2023 q2024 q95 q2025 (by decide +kernel) ⟨Nat.le_of_ble_eq_true rfl, Nat.le_of_ble_eq_true rfl⟩ ⟨Nat.le_of_ble_eq_true rfl, Nat.le_of_ble_eq_true rfl⟩ rfl rfl (Nat.le_of_ble_eq_true rfl) dX10_raise_5) (mM_within w 0 400) (fun _ _ _ => zP0) rfl ?_
  refine z_ifB_eq hz 27 dX10_raise_8 (by decide) (fun c1 => ?_) (fun c1 => ?_)
  · refine z_aload_n hz dX10_raise_27 0 rfl rfl ?_
    refine z_ldc hz q2031 dX10_raise_28 ?_
    refine z_callD (bs2 := [zO (ad 99) 10 (mFs ad iv), zI (G.2.2.1 0) (ad 0) 602 g, zI (G.2.2.1 0) (ad 4) 6 (upd er 1 (er 1 + 1)), zI (G.2.2.1 0) (ad 16) 256 mr]) (st2 := [.int (-1000001)]) hz hA (zk_V hz (rm := (zRm 0 0 0 0)) (As := [.int (-1000001)]) (rest := []) 1 q2032 q2034 qs35 q95 q2035 (by decide +kernel) ⟨Nat.le_of_ble_eq_true rfl, Nat.le_of_ble_eq_true rfl⟩ ⟨Nat.le_of_ble_eq_true rfl, Nat.le_of_ble_eq_true rfl⟩ (zRecv (q := (RX10, TX10, 29)) hz (zAt.mt 0 0 rfl rfl) rfl) rfl rfl (Nat.le_of_ble_eq_true rfl) dX10_raise_30) (mM_finding ad iv er (-1000001) 1 (by decide) (by decide)) [0, 2] rfl (by decide) rfl rfl ?_
    exact z_iret hQ hz hr hlk dX10_raise_33 (by
      have e9 : sRaise g mr w b ii = (1, 0, g) := by simp only [sRaise]; rw [if_neg (fun h9 => c1 h9.1)]
      rw [e9]; exact ⟨congrArg (fun z => some (Value.int z)) rE1, _, rfl⟩)
  · refine z_iload_n hz dX10_raise_11 2 rfl rfl ?_
    refine z_iconst hz 0 dX10_raise_12 ki_0 ?_
    refine z_sipush hz 20000 dX10_raise_13 ks_20000 ?_
    refine z_callRD (st2 := [.int (zB (inR b 0 20000))]) hz zKp.mt (zk_S hz (rm := (zRm 0 0 0 0)) (As := [.int b, .int 0, .int 20000]) (rest := []) 3 q2023 q2024 q95 q2025 (by decide +kernel) ⟨Nat.le_of_ble_eq_true rfl, Nat.le_of_ble_eq_true rfl⟩ ⟨Nat.le_of_ble_eq_true rfl, Nat.le_of_ble_eq_true rfl⟩ rfl rfl (Nat.le_of_ble_eq_true rfl) dX10_raise_16) (mM_within b 0 20000) (fun _ _ _ => zP0) rfl ?_
    refine z_ifB_eq hz 27 dX10_raise_19 (by decide) (fun c2 => ?_) (fun c2 => ?_)
    · refine z_aload_n hz dX10_raise_27 0 rfl rfl ?_
      refine z_ldc hz q2031 dX10_raise_28 ?_
      refine z_callD (bs2 := [zO (ad 99) 10 (mFs ad iv), zI (G.2.2.1 0) (ad 0) 602 g, zI (G.2.2.1 0) (ad 4) 6 (upd er 1 (er 1 + 1)), zI (G.2.2.1 0) (ad 16) 256 mr]) (st2 := [.int (-1000001)]) hz hA (zk_V hz (rm := (zRm 0 0 0 0)) (As := [.int (-1000001)]) (rest := []) 1 q2032 q2034 qs35 q95 q2035 (by decide +kernel) ⟨Nat.le_of_ble_eq_true rfl, Nat.le_of_ble_eq_true rfl⟩ ⟨Nat.le_of_ble_eq_true rfl, Nat.le_of_ble_eq_true rfl⟩ (zRecv (q := (RX10, TX10, 29)) hz (zAt.mt 0 0 rfl rfl) rfl) rfl rfl (Nat.le_of_ble_eq_true rfl) dX10_raise_30) (mM_finding ad iv er (-1000001) 1 (by decide) (by decide)) [0, 2] rfl (by decide) rfl rfl ?_
      exact z_iret hQ hz hr hlk dX10_raise_33 (by
        have e9 : sRaise g mr w b ii = (1, 0, g) := by simp only [sRaise]; rw [if_neg (fun h9 => c2 h9.2.1)]
        rw [e9]; exact ⟨congrArg (fun z => some (Value.int z)) rE1, _, rfl⟩)
    · refine z_iload_n hz dX10_raise_22 3 rfl rfl ?_
      refine z_iconst hz (-1) dX10_raise_23 ki_m1 ?_
      refine z_icmp_ge hz 34 dX10_raise_24 (by decide) (fun c3 => ?_) (fun c3 => ?_)
      · refine z_aload_n hz dX10_raise_34 0 rfl rfl ?_
        refine z_iload_n hz dX10_raise_35 1 rfl rfl ?_
        refine z_iload_n hz dX10_raise_36 2 rfl rfl ?_
        refine z_callD (bs2 := [zO (ad 99) 10 (mFs ad iv), zI (G.2.2.1 0) (ad 0) 602 g, zI (G.2.2.1 0) (ad 4) 6 er, zI (G.2.2.1 0) (ad 16) 256 (mrS g nt w b mr (2 ^ nt))]) (st2 := []) hz hA (zk_V hz (rm := (zRm 2 0 0 60)) (As := [.int w, .int b]) (rest := []) 2 q2341 q2343 qs69 q95 q2344 (by decide +kernel) ⟨Nat.le_of_ble_eq_true rfl, Nat.le_of_ble_eq_true rfl⟩ ⟨Nat.le_of_ble_eq_true rfl, Nat.le_of_ble_eq_true rfl⟩ (zRecv (q := (RX10, TX10, 29)) hz (zAt.mt 0 0 rfl rfl) rfl) rfl rfl (Nat.le_of_ble_eq_true rfl) dX10_raise_37) (mM_findMore ad iv g mr w b nt hnt h8) [0, 1, 3] rfl (by decide) rfl rfl ?_
        have hra := hraise
        simp only [mrF, blN, hnt, tnt, hB, tB] at hra
        generalize hM : mrS g nt w b mr (2 ^ nt) = M at hra ⊢
        obtain ⟨hra1, hra⟩ := hra
        refine z_aload_n hz dX10_raise_40 0 rfl rfl ?_
        refine z_callRD (st2 := [.int (blownF g nt)]) hz zKp.mt (zk_V hz (rm := (zRm 1 0 0 30)) (As := []) (rest := []) 0 q2329 q2331 qs67 q95 q2332 (by decide +kernel) ⟨Nat.le_of_ble_eq_true rfl, Nat.le_of_ble_eq_true rfl⟩ ⟨Nat.le_of_ble_eq_true rfl, Nat.le_of_ble_eq_true rfl⟩ (zRecv (q := (RX10, TX10, 29)) hz (zAt.mt 0 0 rfl rfl) rfl) rfl rfl (Nat.le_of_ble_eq_true rfl) dX10_raise_41) (mM_blown ad iv g nt hnt h8) (fun H9 L9 h9 => (zPc (zAt.mt 0 0 rfl rfl) h9 (zPc (zAt.mt 1 0 rfl rfl) h9 zP0))) rfl ?_
        refine z_top hB ?_
        refine z_istore (lv' := [(0, .ref (ad 99)), (1, .int w), (2, .int b), (3, .int ii), (4, .int (nI B))]) hz [1, 2, 3, 4, 0] dX10_raise_44 (by decide) rfl ?_
        refine z_aload_n hz dX10_raise_46 0 rfl rfl ?_
        refine z_get (C := RX10) (T := TX10) (N := 29) hz in_X10 (zAt.mt 0 0 rfl rfl) rfl 16 (by decide) q1945 (fun _ h9 => h9) rfl dX10_raise_47 ?_
        refine z_iload hz dX10_raise_50 4 rfl ?_
        refine z_iald hz (zAt.mt 3 0 rfl rfl) rfl (by omega) (by decide) dX10_raise_52 ?_
        refine z_ldc hz q2271 dX10_raise_53 ?_
        refine z_icmp_ge hz 69 dX10_raise_55 (by decide) (fun c4 => ?_) (fun c4 => ?_)
        · refine z_aload_n hz dX10_raise_69 0 rfl rfl ?_
          refine z_ldc hz q2133 dX10_raise_70 ?_
          refine z_callD (bs2 := [zO (ad 99) 10 (mFs ad iv), zI (G.2.2.1 0) (ad 0) 602 g, zI (G.2.2.1 0) (ad 4) 6 (upd er 2 (er 2 + 1)), zI (G.2.2.1 0) (ad 16) 256 M]) (st2 := [.int (-1000002)]) hz hA (zk_V hz (rm := (zRm 0 0 0 0)) (As := [.int (-1000002)]) (rest := []) 1 q2032 q2034 qs35 q95 q2035 (by decide +kernel) ⟨Nat.le_of_ble_eq_true rfl, Nat.le_of_ble_eq_true rfl⟩ ⟨Nat.le_of_ble_eq_true rfl, Nat.le_of_ble_eq_true rfl⟩ (zRecv (q := (RX10, TX10, 29)) hz (zAt.mt 0 0 rfl rfl) rfl) rfl rfl (Nat.le_of_ble_eq_true rfl) dX10_raise_72) (mM_finding ad iv er (-1000002) 2 (by decide) (by decide)) [0, 2] rfl (by decide) rfl rfl ?_
          exact z_iret hQ hz hr hlk dX10_raise_75 (by
            have e9 : sRaise g mr w b ii = (2, 0, g) := by simp only [sRaise, mrF, blN, hnt, tnt, hM, hB, tB]; rw [if_pos ⟨c1, c2, Int32.not_lt.mp (Int32.not_lt.mpr c3)⟩, if_pos (Or.inl (Int32.not_lt.mp (Int32.not_lt.mpr c4)))]
            rw [e9]; exact ⟨congrArg (fun z => some (Value.int z)) rE2, _, rfl⟩)
        · obtain ⟨tau0, ht8, htau0⟩ := hra1.resolve_left (fun h9 => absurd (Int32.not_le.mp c4) (by rw [h9]; decide))
          refine z_iload_n hz dX10_raise_58 3 rfl rfl ?_
          refine z_aload_n hz dX10_raise_59 0 rfl rfl ?_
          refine z_get (C := RX10) (T := TX10) (N := 29) hz in_X10 (zAt.mt 0 0 rfl rfl) rfl 16 (by decide) q1945 (fun _ h9 => h9) rfl dX10_raise_60 ?_
          refine z_iload hz dX10_raise_63 4 rfl ?_
          refine z_iald hz (zAt.mt 3 0 rfl rfl) rfl (by omega) (by decide) dX10_raise_65 ?_
          refine z_top htau0 ?_
          refine z_icmp_lt hz 76 dX10_raise_66 (by decide) (fun c5 => ?_) (fun c5 => ?_)
          · refine z_iload_n hz dX10_raise_76 3 rfl rfl ?_
            refine z_if_ge hz 88 dX10_raise_77 (by decide) (fun c6 => ?_) (fun c6 => ?_)
            · obtain ⟨i0, hi31, rfl⟩ := nI_of (Int32.not_lt.mpr c6)
              have hit : i0 < tau0 := (nI_ltI (by omega) (by omega)).mp c5
              refine z_iconst hz 0 dX10_raise_88 ki_0 ?_
              refine z_istore (lv' := [(0, .ref (ad 99)), (1, .int w), (2, .int b), (3, .int (nI i0)), (4, .int (nI B)), (5, .int 0)]) hz [1, 2, 3, 4, 5, 0] dX10_raise_89 (by decide) rfl ?_
              refine z_iconst hz 0 dX10_raise_91 ki_0 ?_
              refine z_istore (lv' := [(0, .ref (ad 99)), (1, .int w), (2, .int b), (3, .int (nI i0)), (4, .int (nI B)), (5, .int 0), (6, .int 0)]) hz [1, 2, 3, 4, 5, 6, 0] dX10_raise_92 (by decide) rfl ?_
              have lp_94 : ∀ (n9 : Nat) (k : Nat) (S2 : Nat) (tl : Nat) (tau : Nat), k ≤ i0 + 1 → S2 < P2 → M S2 = nI tau → tau + k = tau0 → ((k ≤ i0 → rrF g nt b M i0 B = rrF g nt b M (i0 - k) S2)) → ((k = i0 + 1 → rrF g nt b M i0 B = tl)) → i0 + 1 - k < n9 → zW p G.1 e (zRm 3 0 0 90) s m args below meth c 7 Q 0 0 (zΦ G A s [zO (ad 99) 10 (mFs ad iv), zI (G.2.2.1 0) (ad 0) 602 g, zI (G.2.2.1 0) (ad 4) 6 er, zI (G.2.2.1 0) (ad 16) 256 M]) 94 [(0, .ref (ad 99)), (1, .int w), (2, .int b), (3, .int (nI i0)), (4, .int (nI S2)), (5, .int (nI tl)), (6, .int (nI k))] [] := by
                intro n9
                induction n9 with
                | zero => intro _ _ _ _ _ _ _ _ _ _ hm; exact absurd hm (Nat.not_lt_zero _)
                | succ n9 ih_94 =>
                  intro k S2 tl tau hk hS2 htau htk hR hR2 hm_94
                  refine z_iload hz dX10_raise_94 6 rfl ?_
                  refine z_iload_n hz dX10_raise_96 3 rfl rfl ?_
                  refine z_icmpN_gt hz rfl rfl (by omega) (by omega) 177 dX10_raise_97 (by decide) (fun c7 => ?_) (fun c7 => ?_)
                  · refine z_iload hz dX10_raise_177 5 rfl ?_
                    exact z_iret hQ hz hr hlk dX10_raise_179 (by
                      have e9 : sRaise g mr w b (nI i0) = (0, nI tl, g) := by simp only [sRaise, mrF, blN, hnt, tnt, hM, hB, tB]; rw [if_pos ⟨c1, c2, Int32.not_lt.mp (Int32.not_lt.mpr c3)⟩, if_neg (fun h9 => h9.elim (Int32.not_le.mpr (Int32.not_le.mp c4)) (fun h8 => by rw [htau0] at h8; exact Int32.not_le.mpr c5 h8)), if_neg (Int32.not_lt.mpr c6), show tN (nI i0) = i0 from nI_clamp (by omega), hR2 (by omega)]
                      rw [e9]; exact ⟨congrArg (fun z => some (Value.int z)) rOf_0.symm, _, rfl⟩)
                  · refine z_iconst hz 0 dX10_raise_100 ki_0 ?_
                    refine z_istore (lv' := [(0, .ref (ad 99)), (1, .int w), (2, .int b), (3, .int (nI i0)), (4, .int (nI S2)), (5, .int 0), (6, .int (nI k))]) hz [1, 2, 3, 4, 5, 0, 6] dX10_raise_101 (by decide) rfl ?_
                    obtain ⟨tt, httn, hnot⟩ := hra S2 (tau - 1) (by rw [← hP2]; exact hS2) (by omega) (by rw [htau, show tau - 1 + 1 = tau by omega])
                    have lp_103 : ∀ (n9 : Nat) (t : Nat), t ≤ tt → rtF g nt b M S2 nt 0 = rtF g nt b M S2 (nt - t) t → tt - t < n9 → zW p G.1 e (zRm 3 0 0 90) s m args below meth c 7 Q 0 0 (zΦ G A s [zO (ad 99) 10 (mFs ad iv), zI (G.2.2.1 0) (ad 0) 602 g, zI (G.2.2.1 0) (ad 4) 6 er, zI (G.2.2.1 0) (ad 16) 256 M]) 103 [(0, .ref (ad 99)), (1, .int w), (2, .int b), (3, .int (nI i0)), (4, .int (nI S2)), (5, .int (nI t)), (6, .int (nI k))] [] := by
                      intro n9
                      induction n9 with
                      | zero => intro _ _ _ hm; exact absurd hm (Nat.not_lt_zero _)
                      | succ n9 ih_103 =>
                        intro t htn hF hm_103
                        refine z_iload hz dX10_raise_103 4 rfl ?_
                        refine z_iload hz dX10_raise_105 5 rfl ?_
                        refine z_callRD (st2 := [.int (zB (hasB (nI S2) (nI t)))]) hz zKp.mt (zk_S hz (rm := (zRm 0 0 0 0)) (As := [.int (nI S2), .int (nI t)]) (rest := []) 2 q2272 q2273 q95 q2274 (by decide +kernel) ⟨Nat.le_of_ble_eq_true rfl, Nat.le_of_ble_eq_true rfl⟩ ⟨Nat.le_of_ble_eq_true rfl, Nat.le_of_ble_eq_true rfl⟩ rfl rfl (Nat.le_of_ble_eq_true rfl) dX10_raise_107) (mM_has (nI S2) (nI t)) (fun _ _ _ => zP0) rfl ?_
                        refine z_ifB_ne hz 156 dX10_raise_110 (by decide) (fun c8 => ?_) (fun c8 => ?_)
                        · refine z_iinc (lv' := [(0, .ref (ad 99)), (1, .int w), (2, .int b), (3, .int (nI i0)), (4, .int (nI S2)), (5, .int (nI (t + 1))), (6, .int (nI k))]) hz (nI (t + 1)) 5 [1, 2, 3, 4, 5, 0, 6] dX10_raise_156 rfl (nI_1 _) (by decide) rfl ?_
                          refine z_goto hz 103 dX10_raise_159 (by decide) ?_
                          exact ih_103 (t + 1) (rt_lt (P := rtP g nt b M S2) htn (Or.inl c8) hnot) (by rw [hF, show nt - t = (nt - (t + 1)) + 1 by omega]; simp only [rtF]; rw [if_pos (Or.inl c8)]) (by have z9 := rt_lt (P := rtP g nt b M S2) htn (Or.inl c8) hnot; omega)
                        · refine z_aload_n hz dX10_raise_113 0 rfl rfl ?_
                          refine z_iload hz dX10_raise_114 4 rfl ?_
                          refine z_iconst hz 1 dX10_raise_116 ki_1 ?_
                          refine z_iload hz dX10_raise_117 5 rfl ?_
                          refine z_ishl hz dX10_raise_119 ?_
                          refine z_ior hz dX10_raise_120 ?_
                          have hor := or_nat (S := S2) (t := t) (n := nt) (by omega) (by rw [← hP2]; omega) (by omega)
                          rw [← hP2] at hor
                          have hor2 := hor.2
                          refine z_top hor.1 ?_
                          refine z_iconst hz 1 dX10_raise_121 ki_1 ?_
                          refine z_callRD (st2 := [.int (liftF g (nI (S2 ||| 2 ^ t)) 1 nt)]) hz zKp.mt (zk_V hz (rm := (zRm 1 0 0 30)) (As := [.int (nI (S2 ||| 2 ^ t)), .int 1]) (rest := []) 2 q2333 q2335 qs68 q95 q2336 (by decide +kernel) ⟨Nat.le_of_ble_eq_true rfl, Nat.le_of_ble_eq_true rfl⟩ ⟨Nat.le_of_ble_eq_true rfl, Nat.le_of_ble_eq_true rfl⟩ (zRecv (q := (RX10, TX10, 29)) hz (zAt.mt 0 0 rfl rfl) rfl) rfl rfl (Nat.le_of_ble_eq_true rfl) dX10_raise_122) (mM_liftOf ad iv g nt hnt h8 (nI (S2 ||| 2 ^ t)) 1) (fun H9 L9 h9 => (zPc (zAt.mt 0 0 rfl rfl) h9 (zPc (zAt.mt 1 0 rfl rfl) h9 zP0))) rfl ?_
                          refine z_mabs hz q2345 (Nat.le_of_ble_eq_true rfl) (Nat.le_of_ble_eq_true rfl) ⟨Nat.le_of_ble_eq_true rfl, Nat.le_of_ble_eq_true rfl⟩ dX10_raise_125 ?_
                          refine z_iload_n hz dX10_raise_128 2 rfl rfl ?_
                          refine z_icmp_gt hz 156 dX10_raise_129 (by decide) (fun c9 => ?_) (fun c9 => ?_)
                          · refine z_iinc (lv' := [(0, .ref (ad 99)), (1, .int w), (2, .int b), (3, .int (nI i0)), (4, .int (nI S2)), (5, .int (nI (t + 1))), (6, .int (nI k))]) hz (nI (t + 1)) 5 [1, 2, 3, 4, 5, 0, 6] dX10_raise_156 rfl (nI_1 _) (by decide) rfl ?_
                            refine z_goto hz 103 dX10_raise_159 (by decide) ?_
                            exact ih_103 (t + 1) (rt_lt (P := rtP g nt b M S2) htn (Or.inr (Or.inl c9)) hnot) (by rw [hF, show nt - t = (nt - (t + 1)) + 1 by omega]; simp only [rtF]; rw [if_pos (Or.inr (Or.inl c9))]) (by have z9 := rt_lt (P := rtP g nt b M S2) htn (Or.inr (Or.inl c9)) hnot; omega)
                          · refine z_aload_n hz dX10_raise_132 0 rfl rfl ?_
                            refine z_get (C := RX10) (T := TX10) (N := 29) hz in_X10 (zAt.mt 0 0 rfl rfl) rfl 16 (by decide) q1945 (fun _ h9 => h9) rfl dX10_raise_133 ?_
                            refine z_iload hz dX10_raise_136 4 rfl ?_
                            refine z_iconst hz 1 dX10_raise_138 ki_1 ?_
                            refine z_iload hz dX10_raise_139 5 rfl ?_
                            refine z_ishl hz dX10_raise_141 ?_
                            refine z_ior hz dX10_raise_142 ?_
                            have hor := or_nat (S := S2) (t := t) (n := nt) (by omega) (by rw [← hP2]; omega) (by omega)
                            rw [← hP2] at hor
                            have hor2 := hor.2
                            refine z_top hor.1 ?_
                            refine z_iald hz (zAt.mt 3 0 rfl rfl) rfl (by omega) (by decide) dX10_raise_143 ?_
                            refine z_aload_n hz dX10_raise_144 0 rfl rfl ?_
                            refine z_get (C := RX10) (T := TX10) (N := 29) hz in_X10 (zAt.mt 0 0 rfl rfl) rfl 16 (by decide) q1945 (fun _ h9 => h9) rfl dX10_raise_145 ?_
                            refine z_iload hz dX10_raise_148 4 rfl ?_
                            refine z_iald hz (zAt.mt 3 0 rfl rfl) rfl (by omega) (by decide) dX10_raise_150 ?_
                            refine z_iconst hz 1 dX10_raise_151 ki_1 ?_
                            refine z_isub hz dX10_raise_152 ?_
                            refine z_icmp_eq hz 162 dX10_raise_153 (by decide) (fun c10 => ?_) (fun c10 => ?_)
                            · have hnP : ¬ rtP g nt b M S2 t := fun h9 => h9.elim c8 (fun h8 => h8.elim c9 (fun h7 => h7 c10))
                              have hX : rtF g nt b M S2 nt 0 = t := by rw [hF, show nt - t = (nt - (t + 1)) + 1 by omega]; simp only [rtF]; rw [if_neg hnP]
                              refine z_iload hz dX10_raise_162 4 rfl ?_
                              refine z_iconst hz 1 dX10_raise_164 ki_1 ?_
                              refine z_iload hz dX10_raise_165 5 rfl ?_
                              refine z_ishl hz dX10_raise_167 ?_
                              refine z_ior hz dX10_raise_168 ?_
                              have hor := or_nat (S := S2) (t := t) (n := nt) (by omega) (by rw [← hP2]; omega) (by omega)
                              rw [← hP2] at hor
                              have hor2 := hor.2
                              refine z_top hor.1 ?_
                              refine z_istore (lv' := [(0, .ref (ad 99)), (1, .int w), (2, .int b), (3, .int (nI i0)), (4, .int (nI (S2 ||| 2 ^ t))), (5, .int (nI t)), (6, .int (nI k))]) hz [1, 2, 3, 4, 0, 5, 6] dX10_raise_169 (by decide) rfl ?_
                              refine z_iinc (lv' := [(0, .ref (ad 99)), (1, .int w), (2, .int b), (3, .int (nI i0)), (4, .int (nI (S2 ||| 2 ^ t))), (5, .int (nI t)), (6, .int (nI (k + 1)))]) hz (nI (k + 1)) 6 [1, 2, 3, 4, 5, 6, 0] dX10_raise_171 rfl (nI_1 _) (by decide) rfl ?_
                              refine z_goto hz 94 dX10_raise_174 (by decide) ?_
                              exact ih_94 (k + 1) (S2 ||| 2 ^ t) t (tau - 1) (by omega) hor2 (c10.trans (by rw [htau]; exact nI_subp (by omega) (by omega))) (by omega) (fun h9 => by rw [hR (by omega), show i0 - k = (i0 - (k + 1)) + 1 by omega]; simp only [rrF]; rw [hX]) (fun h9 => by rw [hR (by omega), show i0 - k = 0 by omega]; simp only [rrF]; exact hX) (by omega)
                            · refine z_iinc (lv' := [(0, .ref (ad 99)), (1, .int w), (2, .int b), (3, .int (nI i0)), (4, .int (nI S2)), (5, .int (nI (t + 1))), (6, .int (nI k))]) hz (nI (t + 1)) 5 [1, 2, 3, 4, 5, 0, 6] dX10_raise_156 rfl (nI_1 _) (by decide) rfl ?_
                              refine z_goto hz 103 dX10_raise_159 (by decide) ?_
                              exact ih_103 (t + 1) (rt_lt (P := rtP g nt b M S2) htn (Or.inr (Or.inr c10)) hnot) (by rw [hF, show nt - t = (nt - (t + 1)) + 1 by omega]; simp only [rtF]; rw [if_pos (Or.inr (Or.inr c10))]) (by have z9 := rt_lt (P := rtP g nt b M S2) htn (Or.inr (Or.inr c10)) hnot; omega)
                    exact lp_103 ((tt - 0) + 1) 0 (Nat.zero_le _) rfl (Nat.lt_succ_self _)
              exact lp_94 ((i0 + 1 - 0) + 1) 0 B 0 tau0 (Nat.zero_le _) (by omega) htau0 (by omega) (fun _ => rfl) (fun h9 => absurd h9 (by omega)) (Nat.lt_succ_self _)
            · refine z_aload_n hz dX10_raise_80 0 rfl rfl ?_
              refine z_get (C := RX10) (T := TX10) (N := 29) hz in_X10 (zAt.mt 0 0 rfl rfl) rfl 16 (by decide) q1945 (fun _ h9 => h9) rfl dX10_raise_81 ?_
              refine z_iload hz dX10_raise_84 4 rfl ?_
              refine z_iald hz (zAt.mt 3 0 rfl rfl) rfl (by omega) (by decide) dX10_raise_86 ?_
              refine z_top htau0 ?_
              exact z_iret hQ hz hr hlk dX10_raise_87 (by
                have e9 : sRaise g mr w b ii = (0, nI tau0, g) := by simp only [sRaise, mrF, blN, hnt, tnt, hM, hB, tB]; rw [if_pos ⟨c1, c2, Int32.not_lt.mp (Int32.not_lt.mpr c3)⟩, if_neg (fun h9 => h9.elim (Int32.not_le.mpr (Int32.not_le.mp c4)) (fun h8 => by rw [htau0] at h8; exact Int32.not_le.mpr c5 h8)), if_pos (Int32.not_le.mp c6), htau0]
                rw [e9]; exact ⟨congrArg (fun z => some (Value.int z)) rOf_0.symm, _, rfl⟩)
          · refine z_aload_n hz dX10_raise_69 0 rfl rfl ?_
            refine z_ldc hz q2133 dX10_raise_70 ?_
            refine z_callD (bs2 := [zO (ad 99) 10 (mFs ad iv), zI (G.2.2.1 0) (ad 0) 602 g, zI (G.2.2.1 0) (ad 4) 6 (upd er 2 (er 2 + 1)), zI (G.2.2.1 0) (ad 16) 256 M]) (st2 := [.int (-1000002)]) hz hA (zk_V hz (rm := (zRm 0 0 0 0)) (As := [.int (-1000002)]) (rest := []) 1 q2032 q2034 qs35 q95 q2035 (by decide +kernel) ⟨Nat.le_of_ble_eq_true rfl, Nat.le_of_ble_eq_true rfl⟩ ⟨Nat.le_of_ble_eq_true rfl, Nat.le_of_ble_eq_true rfl⟩ (zRecv (q := (RX10, TX10, 29)) hz (zAt.mt 0 0 rfl rfl) rfl) rfl rfl (Nat.le_of_ble_eq_true rfl) dX10_raise_72) (mM_finding ad iv er (-1000002) 2 (by decide) (by decide)) [0, 2] rfl (by decide) rfl rfl ?_
            exact z_iret hQ hz hr hlk dX10_raise_75 (by
              have e9 : sRaise g mr w b ii = (2, 0, g) := by simp only [sRaise, mrF, blN, hnt, tnt, hM, hB, tB]; rw [if_pos ⟨c1, c2, Int32.not_lt.mp (Int32.not_lt.mpr c3)⟩, if_pos (Or.inr (by rw [htau0]; exact Int32.not_lt.mp c5))]
              rw [e9]; exact ⟨congrArg (fun z => some (Value.int z)) rE2, _, rfl⟩)
      · refine z_aload_n hz dX10_raise_27 0 rfl rfl ?_
        refine z_ldc hz q2031 dX10_raise_28 ?_
        refine z_callD (bs2 := [zO (ad 99) 10 (mFs ad iv), zI (G.2.2.1 0) (ad 0) 602 g, zI (G.2.2.1 0) (ad 4) 6 (upd er 1 (er 1 + 1)), zI (G.2.2.1 0) (ad 16) 256 mr]) (st2 := [.int (-1000001)]) hz hA (zk_V hz (rm := (zRm 0 0 0 0)) (As := [.int (-1000001)]) (rest := []) 1 q2032 q2034 qs35 q95 q2035 (by decide +kernel) ⟨Nat.le_of_ble_eq_true rfl, Nat.le_of_ble_eq_true rfl⟩ ⟨Nat.le_of_ble_eq_true rfl, Nat.le_of_ble_eq_true rfl⟩ (zRecv (q := (RX10, TX10, 29)) hz (zAt.mt 0 0 rfl rfl) rfl) rfl rfl (Nat.le_of_ble_eq_true rfl) dX10_raise_30) (mM_finding ad iv er (-1000001) 1 (by decide) (by decide)) [0, 2] rfl (by decide) rfl rfl ?_
        exact z_iret hQ hz hr hlk dX10_raise_33 (by
          have e9 : sRaise g mr w b ii = (1, 0, g) := by simp only [sRaise]; rw [if_neg (fun h9 => Int32.not_lt.mpr h9.2.2 (Int32.not_le.mp c3))]
          rw [e9]; exact ⟨congrArg (fun z => some (Value.int z)) rE1, _, rfl⟩)
