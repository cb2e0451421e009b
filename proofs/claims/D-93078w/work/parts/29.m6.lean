set_option maxRecDepth 100000
set_option maxHeartbeats 400000 in
theorem mM_law {G : zG} (ad : Nat → Nat) (iv g er : Nat → Int32) (pl : Nat → Int32) (u : Int32) (a : Int32) (b : Int32) (cx : Int32) (htx : ∀ u, u < 4 → txOk g u) : zMet G yX10_law (ws_ yX10_law cX10_law 5 (some .int)) (zRm 3 0 0 110) [.ref (ad 99), .int u, .int a, .int b, .int cx] [zO (ad 99) 10 (mFs ad iv), zI (G.2.2.1 0) (ad 0) 602 g, zI (G.2.2.1 0) (ad 4) 6 er, zI (G.2.2.1 0) (ad 12) 60 pl] (fun v9 b9 => v9 = some (.int (rOf (sLaw g u a b cx))) ∧ ∃ pl9 : Nat → Int32, b9 = [zO (ad 99) 10 (mFs ad iv), zI (G.2.2.1 0) (ad 0) 602 ((sLaw g u a b cx).2.2), zI (G.2.2.1 0) (ad 4) 6 (eOf er (sLaw g u a b cx)), zI (G.2.2.1 0) (ad 12) 60 pl9]) := by
  refine zMet.of (by decide +kernel) (Nat.le_of_ble_eq_true rfl) ?_
  intro p e s m args below meth c A hz hA hr hlk hnm9 Q hQ
  refine z_lv (lv' := [(0, .ref (ad 99)), (1, .int u), (2, .int a), (3, .int b), (4, .int cx)]) [0, 1, 2, 3, 4] rfl ?_
  refine z_iload_n hz dX10_law_0 1 rfl rfl ?_
  refine z_iconst hz 0 dX10_law_1 ki_0 ?_
  refine z_iconst hz 3 dX10_law_2 ki_3 ?_
  refine z_callRD (st2 := [.int (zB (inR u 0 3))]) hz zKp.mt (zk_S hz (rm := (zRm 0 0 0 0)) (As := [.int u, .int 0, .int 3]) (rest := []) 3 q2023 q2024 q95 q2025 (by decide +kernel) ⟨Nat.le_of_ble_eq_true rfl, Nat.le_of_ble_eq_true rfl⟩ ⟨Nat.le_of_ble_eq_true rfl, Nat.le_of_ble_eq_true rfl⟩ rfl rfl (Nat.le_of_ble_eq_true rfl) dX10_law_3) (mM_within u 0 3) (fun _ _ _ => zP0) rfl ?_
  refine z_ifB_eq hz 21 dX10_law_6 (by decide) (fun c1 => ?_) (fun c1 => ?_)
  · refine z_aload_n hz dX10_law_21 0 rfl rfl ?_
    refine z_ldc hz q2031 dX10_law_22 ?_
    refine z_callD (bs2 := [zO (ad 99) 10 (mFs ad iv), zI (G.2.2.1 0) (ad 0) 602 g, zI (G.2.2.1 0) (ad 4) 6 (upd er 1 (er 1 + 1)), zI (G.2.2.1 0) (ad 12) 60 pl]) (st2 := [.int (-1000001)]) hz hA (zk_V hz (rm := (zRm 0 0 0 0)) (As := [.int (-1000001)]) (rest := []) 1 q2032 q2034 qs35 q95 q2035 (by decide +kernel) ⟨Nat.le_of_ble_eq_true rfl, Nat.le_of_ble_eq_true rfl⟩ ⟨Nat.le_of_ble_eq_true rfl, Nat.le_of_ble_eq_true rfl⟩ (zRecv (q := (RX10, TX10, 29)) hz (zAt.mt 0 0 rfl rfl) rfl) rfl rfl (Nat.le_of_ble_eq_true rfl) dX10_law_24) (mM_finding ad iv er (-1000001) 1 (by decide) (by decide)) [0, 2] rfl (by decide) rfl rfl ?_
    exact z_iret hQ hz hr hlk dX10_law_27 (by
      have e9 : sLaw g u a b cx = (1, 0, g) := by simp [sLaw, inR, nI_clamp, c1]
      rw [e9]; exact ⟨congrArg (fun z => some (Value.int z)) rE1, _, rfl⟩)
  · obtain ⟨j, j_lo, j_hi, rfl⟩ := inR_nat 0 3 kn_0 kn_3 (by decide) (by decide) c1
    have t_j : tN (nI j) = j := nI_clamp (by omega)
    refine z_aload_n hz dX10_law_9 0 rfl rfl ?_
    refine z_iload_n hz dX10_law_10 1 rfl rfl ?_
    refine z_iload_n hz dX10_law_11 2 rfl rfl ?_
    refine z_iload_n hz dX10_law_12 3 rfl rfl ?_
    refine z_iload hz dX10_law_13 4 rfl ?_
    refine z_callE (bs2 := fun f2 => [zO (ad 99) 10 (mFs ad iv), zI (G.2.2.1 0) (ad 0) 602 g, zI (G.2.2.1 0) (ad 4) 6 er, zI (G.2.2.1 0) (ad 12) 60 f2]) (st2 := [.int (givenF g j a b cx)]) hz hA (zk_V hz (rm := (zRm 2 0 0 80)) (As := [.int (nI j), .int a, .int b, .int cx]) (rest := []) 4 q2098 q2100 qs41 q95 q2101 (by decide +kernel) ⟨Nat.le_of_ble_eq_true rfl, Nat.le_of_ble_eq_true rfl⟩ ⟨Nat.le_of_ble_eq_true rfl, Nat.le_of_ble_eq_true rfl⟩ (zRecv (q := (RX10, TX10, 29)) hz (zAt.mt 0 0 rfl rfl) rfl) rfl rfl (Nat.le_of_ble_eq_true rfl) dX10_law_15) (mM_given ad iv g pl j (by omega) a b cx (htx j (by omega))) [0, 1, 3] rfl (by decide) (fun _ => rfl) rfl (fun f2 => ?_)
    refine z_goto hz 27 dX10_law_18 (by decide) ?_
    exact z_iret hQ hz hr hlk dX10_law_27 (by
      have e9 : sLaw g (nI j) a b cx = (0, givenF g j a b cx, g) := by simp [sLaw, inR, nI_clamp, c1, t_j]
      rw [e9]; exact ⟨congrArg (fun z => some (Value.int z)) rOf_0.symm, _, rfl⟩)
set_option maxHeartbeats 400000 in
theorem mM_as {G : zG} (ad : Nat → Nat) (iv g er : Nat → Int32) (way kd0 : Int32) (nw : Nat) (hnw : g 3 = nI nw) (h12 : nw ≤ 12) (hw : wayOk g nw) : zMet G yX10_as (ws_ yX10_as cX10_as 4 (some .int)) (zRm 2 0 0 60) [.ref (ad 99), .int way, .int kd0] [zO (ad 99) 10 (mFs ad iv), zI (G.2.2.1 0) (ad 0) 602 g, zI (G.2.2.1 0) (ad 4) 6 er] (fun v9 b9 => v9 = some (.int (rOf (sAs g way kd0))) ∧ b9 = [zO (ad 99) 10 (mFs ad iv), zI (G.2.2.1 0) (ad 0) 602 ((sAs g way kd0).2.2), zI (G.2.2.1 0) (ad 4) 6 (eOf er (sAs g way kd0))]) := by
  refine zMet.of (by decide +kernel) (Nat.le_of_ble_eq_true rfl) ?_
  intro p e s m args below meth c A hz hA hr hlk hnm9 Q hQ
  refine z_lv (lv' := [(0, .ref (ad 99)), (1, .int way), (2, .int kd0)]) [0, 1, 2] rfl ?_
  refine z_aload_n hz dX10_as_0 0 rfl rfl ?_
  refine z_iload_n hz dX10_as_1 1 rfl rfl ?_
  refine z_iconst hz 3 dX10_as_2 ki_3 ?_
  refine z_callRD (st2 := [.int (zB (inR way 0 (g 3 - 1)))]) hz zKp.mt (zk_V hz (rm := (zRm 1 0 0 30)) (As := [.int way, .int 3]) (rest := []) 2 q2053 q2055 qs37 q95 q2056 (by decide +kernel) ⟨Nat.le_of_ble_eq_true rfl, Nat.le_of_ble_eq_true rfl⟩ ⟨Nat.le_of_ble_eq_true rfl, Nat.le_of_ble_eq_true rfl⟩ (zRecv (q := (RX10, TX10, 29)) hz (zAt.mt 0 0 rfl rfl) rfl) rfl rfl (Nat.le_of_ble_eq_true rfl) dX10_as_3) (mM_is ad iv g way 3 (by decide)) (fun H9 L9 h9 => (zPc (zAt.mt 0 0 rfl rfl) h9 (zPc (zAt.mt 1 0 rfl rfl) h9 zP0))) rfl ?_
  refine z_ifB_eq hz 19 dX10_as_6 (by decide) (fun c1 => ?_) (fun c1 => ?_)
  · refine z_aload_n hz dX10_as_19 0 rfl rfl ?_
    refine z_ldc hz q2031 dX10_as_20 ?_
    refine z_callD (bs2 := [zO (ad 99) 10 (mFs ad iv), zI (G.2.2.1 0) (ad 0) 602 g, zI (G.2.2.1 0) (ad 4) 6 (upd er 1 (er 1 + 1))]) (st2 := [.int (-1000001)]) hz hA (zk_V hz (rm := (zRm 0 0 0 0)) (As := [.int (-1000001)]) (rest := []) 1 q2032 q2034 qs35 q95 q2035 (by decide +kernel) ⟨Nat.le_of_ble_eq_true rfl, Nat.le_of_ble_eq_true rfl⟩ ⟨Nat.le_of_ble_eq_true rfl, Nat.le_of_ble_eq_true rfl⟩ (zRecv (q := (RX10, TX10, 29)) hz (zAt.mt 0 0 rfl rfl) rfl) rfl rfl (Nat.le_of_ble_eq_true rfl) dX10_as_22) (mM_finding ad iv er (-1000001) 1 (by decide) (by decide)) [0, 2] rfl (by decide) rfl rfl ?_
    exact z_iret hQ hz hr hlk dX10_as_25 (by
      have e9 : sAs g way kd0 = (1, 0, g) := by simp [sAs, inR, nI_clamp, c1]
      rw [e9]; exact ⟨congrArg (fun z => some (Value.int z)) rE1, rfl⟩)
  · obtain ⟨j, j_lt, rfl⟩ := is_nat hnw (by omega) c1
    have t_j : tN (nI j) = j := nI_clamp (by omega)
    refine z_iload_n hz dX10_as_9 2 rfl rfl ?_
    refine z_iconst hz 0 dX10_as_10 ki_0 ?_
    refine z_bipush hz 7 dX10_as_11 kb_7 ?_
    refine z_callRD (st2 := [.int (zB (inR kd0 0 7))]) hz zKp.mt (zk_S hz (rm := (zRm 0 0 0 0)) (As := [.int kd0, .int 0, .int 7]) (rest := []) 3 q2023 q2024 q95 q2025 (by decide +kernel) ⟨Nat.le_of_ble_eq_true rfl, Nat.le_of_ble_eq_true rfl⟩ ⟨Nat.le_of_ble_eq_true rfl, Nat.le_of_ble_eq_true rfl⟩ rfl rfl (Nat.le_of_ble_eq_true rfl) dX10_as_13) (mM_within kd0 0 7) (fun _ _ _ => zP0) rfl ?_
    refine z_ifB_ne hz 26 dX10_as_16 (by decide) (fun c2 => ?_) (fun c2 => ?_)
    · obtain ⟨kd, kd_lo, kd_hi, rfl⟩ := inR_nat 0 7 kn_0 kn_7 (by decide) (by decide) c2
      have t_kd : tN (nI kd) = kd := nI_clamp (by omega)
      obtain ⟨⟨k0, hk0, hwk⟩, -, -, -⟩ := hw j (by omega)
      have tk0 : tN (nI k0) = k0 := nI_clamp (by omega)
      refine z_aload_n hz dX10_as_26 0 rfl rfl ?_
      refine z_iload_n hz dX10_as_27 1 rfl rfl ?_
      refine z_iconst hz 0 dX10_as_28 ki_0 ?_
      refine z_callRD (st2 := [.int (g (152 + 4 * j))]) hz zKp.mt (zk_V hz (rm := (zRm 0 0 0 0)) (As := [.int (nI j), .int 0]) (rest := []) 2 q2225 q2227 qs57 q95 q2228 (by decide +kernel) ⟨Nat.le_of_ble_eq_true rfl, Nat.le_of_ble_eq_true rfl⟩ ⟨Nat.le_of_ble_eq_true rfl, Nat.le_of_ble_eq_true rfl⟩ (zRecv (q := (RX10, TX10, 29)) hz (zAt.mt 0 0 rfl rfl) rfl) rfl rfl (Nat.le_of_ble_eq_true rfl) dX10_as_29) (mM_way2 ad iv g j 0 (by omega)) (fun H9 L9 h9 => (zPc (zAt.mt 0 0 rfl rfl) h9 (zPc (zAt.mt 1 0 rfl rfl) h9 zP0))) rfl ?_
      refine z_top hwk ?_
      refine z_istore_n (lv' := [(0, .ref (ad 99)), (1, .int (nI j)), (2, .int (nI kd)), (3, .int (nI k0))]) hz [1, 2, 3, 0] dX10_as_32 rfl (by decide) rfl ?_
      have lp_33 : ∀ (n9 : Nat) (x : Int32), climbOk kd k0 x → climbM x < n9 → zW p G.1 e (zRm 2 0 0 60) s m args below meth c 4 Q 0 0 (zΦ G A s [zO (ad 99) 10 (mFs ad iv), zI (G.2.2.1 0) (ad 0) 602 g, zI (G.2.2.1 0) (ad 4) 6 er]) 33 [(0, .ref (ad 99)), (1, .int (nI j)), (2, .int (nI kd)), (3, .int x)] [] := by
        intro n9
        induction n9 with
        | zero => intro _ _ hm; exact absurd hm (Nat.not_lt_zero _)
        | succ n9 ih_33 =>
          intro x hx hm_33
          refine z_iload_n hz dX10_as_33 3 rfl rfl ?_
          refine z_if_lt hz 50 dX10_as_34 (by decide) (fun c3 => ?_) (fun c3 => ?_)
          · refine z_iload_n hz dX10_as_50 3 rfl rfl ?_
            refine z_if_geF hz 63 dX10_as_51 (by decide) (Int32.not_le.mpr c3) ?_
            refine z_aload_n hz dX10_as_54 0 rfl rfl ?_
            refine z_ldc hz q2232 dX10_as_55 ?_
            refine z_callD (bs2 := [zO (ad 99) 10 (mFs ad iv), zI (G.2.2.1 0) (ad 0) 602 g, zI (G.2.2.1 0) (ad 4) 6 (upd er 5 (er 5 + 1))]) (st2 := [.int (-1000005)]) hz hA (zk_V hz (rm := (zRm 0 0 0 0)) (As := [.int (-1000005)]) (rest := []) 1 q2032 q2034 qs35 q95 q2035 (by decide +kernel) ⟨Nat.le_of_ble_eq_true rfl, Nat.le_of_ble_eq_true rfl⟩ ⟨Nat.le_of_ble_eq_true rfl, Nat.le_of_ble_eq_true rfl⟩ (zRecv (q := (RX10, TX10, 29)) hz (zAt.mt 0 0 rfl rfl) rfl) rfl rfl (Nat.le_of_ble_eq_true rfl) dX10_as_57) (mM_finding ad iv er (-1000005) 5 (by decide) (by decide)) [0, 2] rfl (by decide) rfl rfl ?_
            refine z_goto hz 69 dX10_as_60 (by decide) ?_
            exact z_iret hQ hz hr hlk dX10_as_69 (by
              have e9 : sAs g (nI j) (nI kd) = (5, 0, g) := by simp only [sAs]; rw [if_pos ⟨c1, c2⟩, t_j, t_kd, hwk, tk0, if_neg (fun h9 => hx.elim (fun h8 => h8.2 h9) (fun ⟨k, h1, h2, h3⟩ => absurd c3 (by rw [h2]; exact nI_pos (by omega))))]
              rw [e9]; exact ⟨congrArg (fun z => some (Value.int z)) rE5, rfl⟩)
          · obtain ⟨k, hk8, hkx, hki⟩ := hx.resolve_left (fun h9 => c3 (by rw [h9.1]; decide))
            subst hkx
            refine z_iload_n hz dX10_as_37 3 rfl rfl ?_
            refine z_iload_n hz dX10_as_38 2 rfl rfl ?_
            refine z_icmpN_eq hz rfl rfl (by omega) (by omega) 50 dX10_as_39 (by decide) (fun c4 => ?_) (fun c4 => ?_)
            · refine z_iload_n hz dX10_as_50 3 rfl rfl ?_
              refine z_if_geT hz 63 dX10_as_51 (by decide) (nI_pos' (by omega)) ?_
              refine z_aload_n hz dX10_as_63 0 rfl rfl ?_
              refine z_iload_n hz dX10_as_64 1 rfl rfl ?_
              refine z_iconst hz 1 dX10_as_65 ki_1 ?_
              refine z_callRD (st2 := [.int (g (152 + 4 * j + 1))]) hz zKp.mt (zk_V hz (rm := (zRm 0 0 0 0)) (As := [.int (nI j), .int 1]) (rest := []) 2 q2225 q2227 qs57 q95 q2228 (by decide +kernel) ⟨Nat.le_of_ble_eq_true rfl, Nat.le_of_ble_eq_true rfl⟩ ⟨Nat.le_of_ble_eq_true rfl, Nat.le_of_ble_eq_true rfl⟩ (zRecv (q := (RX10, TX10, 29)) hz (zAt.mt 0 0 rfl rfl) rfl) rfl rfl (Nat.le_of_ble_eq_true rfl) dX10_as_66) (mM_way2 ad iv g j 1 (by omega)) (fun H9 L9 h9 => (zPc (zAt.mt 0 0 rfl rfl) h9 (zPc (zAt.mt 1 0 rfl rfl) h9 zP0))) rfl ?_
              exact z_iret hQ hz hr hlk dX10_as_69 (by
                have e9 : sAs g (nI j) (nI kd) = (0, g (152 + 4 * j + 1), g) := by simp only [sAs]; rw [if_pos ⟨c1, c2⟩, t_j, t_kd, hwk, tk0, if_pos (by rw [hki, c4]; exact chain_self (by omega))]
                rw [e9]; exact ⟨congrArg (fun z => some (Value.int z)) rOf_0.symm, rfl⟩)
            · refine z_iload_n hz dX10_as_42 3 rfl rfl ?_
              refine z_callRD (st2 := [.int (aboveI k)]) hz zKp.mt (zk_S hz (rm := (zRm 0 0 0 0)) (As := [.int (nI k)]) (rest := []) 1 q2229 q2230 q95 q2231 (by decide +kernel) ⟨Nat.le_of_ble_eq_true rfl, Nat.le_of_ble_eq_true rfl⟩ ⟨Nat.le_of_ble_eq_true rfl, Nat.le_of_ble_eq_true rfl⟩ rfl rfl (Nat.le_of_ble_eq_true rfl) dX10_as_43) (mM_above k (by omega)) (fun _ _ _ => zP0) rfl ?_
              refine z_istore_n (lv' := [(0, .ref (ad 99)), (1, .int (nI j)), (2, .int (nI kd)), (3, .int (aboveI k))]) hz [1, 2, 3, 0] dX10_as_46 rfl (by decide) rfl ?_
              refine z_goto hz 33 dX10_as_47 (by decide) ?_
              exact ih_33 (aboveI k) (climb_step hk8 c4 hki).1 (Nat.lt_of_lt_of_le (climb_step hk8 c4 hki).2 (Nat.le_of_lt_succ hm_33))
      exact lp_33 ((climbM (nI k0)) + 1) (nI k0) (Or.inr ⟨k0, hk0, rfl, Iff.rfl⟩) (Nat.lt_succ_self _)
    · refine z_aload_n hz dX10_as_19 0 rfl rfl ?_
      refine z_ldc hz q2031 dX10_as_20 ?_
      refine z_callD (bs2 := [zO (ad 99) 10 (mFs ad iv), zI (G.2.2.1 0) (ad 0) 602 g, zI (G.2.2.1 0) (ad 4) 6 (upd er 1 (er 1 + 1))]) (st2 := [.int (-1000001)]) hz hA (zk_V hz (rm := (zRm 0 0 0 0)) (As := [.int (-1000001)]) (rest := []) 1 q2032 q2034 qs35 q95 q2035 (by decide +kernel) ⟨Nat.le_of_ble_eq_true rfl, Nat.le_of_ble_eq_true rfl⟩ ⟨Nat.le_of_ble_eq_true rfl, Nat.le_of_ble_eq_true rfl⟩ (zRecv (q := (RX10, TX10, 29)) hz (zAt.mt 0 0 rfl rfl) rfl) rfl rfl (Nat.le_of_ble_eq_true rfl) dX10_as_22) (mM_finding ad iv er (-1000001) 1 (by decide) (by decide)) [0, 2] rfl (by decide) rfl rfl ?_
      exact z_iret hQ hz hr hlk dX10_as_25 (by
        have e9 : sAs g (nI j) kd0 = (1, 0, g) := by simp [sAs, inR, nI_clamp, c1, c2, t_j]
        rw [e9]; exact ⟨congrArg (fun z => some (Value.int z)) rE1, rfl⟩)
set_option maxHeartbeats 400000 in
theorem mM_tides {G : zG} (ad : Nat → Nat) (iv g pl0 : Nat → Int32) (fr mn : Nat) (hfr : fr < 100000) (hmn : mn < 100000) (htx : ∀ u, u < 4 → txOk g u) : zMet G yX10_tides (ws_ yX10_tides cX10_tides 5 (some .int)) (zRm 3 0 0 110) [.ref (ad 99), .int (nI fr), .int (nI mn)] [zO (ad 99) 10 (mFs ad iv), zI (G.2.2.1 0) (ad 0) 602 g, zI (G.2.2.1 0) (ad 12) 60 pl0] (fun v9 b9 => v9 = some (.int (tidesF g fr mn)) ∧ ∃ f9 : Nat → Int32, b9 = [zO (ad 99) 10 (mFs ad iv), zI (G.2.2.1 0) (ad 0) 602 g, zI (G.2.2.1 0) (ad 12) 60 f9]) := by
  refine zMet.of (by decide +kernel) (Nat.le_of_ble_eq_true rfl) ?_
  intro p e s m args below meth c A hz hA hr hlk hnm9 Q hQ
  refine z_lv (lv' := [(0, .ref (ad 99)), (1, .int (nI fr)), (2, .int (nI mn))]) [0, 1, 2] rfl ?_
  refine z_iconst hz 0 dX10_tides_0 ki_0 ?_
  refine z_istore_n (lv' := [(0, .ref (ad 99)), (1, .int (nI fr)), (2, .int (nI mn)), (3, .int 0)]) hz [1, 2, 3, 0] dX10_tides_1 rfl (by decide) rfl ?_
  refine z_iload_n hz dX10_tides_2 1 rfl rfl ?_
  refine z_istore (lv' := [(0, .ref (ad 99)), (1, .int (nI fr)), (2, .int (nI mn)), (3, .int 0), (4, .int (nI fr))]) hz [1, 2, 3, 4, 0] dX10_tides_3 (by decide) rfl ?_
  have lp_5 : ∀ (n9 : Nat) (d : Nat) (y : Int32) (pl2 : Nat → Int32), d ≤ mn → y = tidesF g fr d → mn - d < n9 → zW p G.1 e (zRm 3 0 0 110) s m args below meth c 5 Q 0 0 (zΦ G A s [zO (ad 99) 10 (mFs ad iv), zI (G.2.2.1 0) (ad 0) 602 g, zI (G.2.2.1 0) (ad 12) 60 pl2]) 5 [(0, .ref (ad 99)), (1, .int (nI fr)), (2, .int (nI mn)), (3, .int y), (4, .int (nI (fr + d)))] [] := by
    intro n9
    induction n9 with
    | zero => intro _ _ _ _ _ hm; exact absurd hm (Nat.not_lt_zero _)
    | succ n9 ih_5 =>
      intro d y pl2 hd hy hm_5
      refine z_iload hz dX10_tides_5 4 rfl ?_
      refine z_iload_n hz dX10_tides_7 1 rfl rfl ?_
      refine z_iload_n hz dX10_tides_8 2 rfl rfl ?_
      refine z_iaddN hz rfl rfl dX10_tides_9 ?_
      refine z_icmpN_ge hz rfl rfl (by omega) (by omega) 31 dX10_tides_10 (by decide) (fun c1 => ?_) (fun c1 => ?_)
      · refine z_iload_n hz dX10_tides_31 3 rfl rfl ?_
        exact z_iret hQ hz hr hlk dX10_tides_32 ⟨by rw [hy, show mn = d by omega], _, rfl⟩
      · refine z_iload_n hz dX10_tides_13 3 rfl rfl ?_
        refine z_aload_n hz dX10_tides_14 0 rfl rfl ?_
        refine z_iconst hz 2 dX10_tides_15 ki_2 ?_
        refine z_iload hz dX10_tides_16 4 rfl ?_
        refine z_iconst hz 0 dX10_tides_18 ki_0 ?_
        refine z_iconst hz 0 dX10_tides_19 ki_0 ?_
        refine z_callE (bs2 := fun f2 => [zO (ad 99) 10 (mFs ad iv), zI (G.2.2.1 0) (ad 0) 602 g, zI (G.2.2.1 0) (ad 12) 60 f2]) (st2 := [.int (givenF g 2 (nI (fr + d)) 0 0), .int y]) hz hA (zk_V hz (rm := (zRm 2 0 0 80)) (As := [.int 2, .int (nI (fr + d)), .int 0, .int 0]) (rest := [.int y]) 4 q2098 q2100 qs41 q95 q2101 (by decide +kernel) ⟨Nat.le_of_ble_eq_true rfl, Nat.le_of_ble_eq_true rfl⟩ ⟨Nat.le_of_ble_eq_true rfl, Nat.le_of_ble_eq_true rfl⟩ (zRecv (q := (RX10, TX10, 29)) hz (zAt.mt 0 0 rfl rfl) rfl) rfl rfl (Nat.le_of_ble_eq_true rfl) dX10_tides_20) (mM_given ad iv g pl2 2 (by decide) (nI (fr + d)) 0 0 (htx 2 (by decide))) [0, 1, 2] rfl (by decide) (fun _ => rfl) rfl (fun f2 => ?_)
        refine z_iadd hz dX10_tides_23 ?_
        refine z_istore_n (lv' := [(0, .ref (ad 99)), (1, .int (nI fr)), (2, .int (nI mn)), (3, .int (y + (givenF g 2 (nI (fr + d)) 0 0))), (4, .int (nI (fr + d)))]) hz [1, 2, 3, 0, 4] dX10_tides_24 rfl (by decide) rfl ?_
        refine z_iinc (lv' := [(0, .ref (ad 99)), (1, .int (nI fr)), (2, .int (nI mn)), (3, .int (y + (givenF g 2 (nI (fr + d)) 0 0))), (4, .int (nI (fr + d + 1)))]) hz (nI (fr + d + 1)) 4 [1, 2, 3, 4, 0] dX10_tides_25 rfl (nI_1 _) (by decide) rfl ?_
        refine z_goto hz 5 dX10_tides_28 (by decide) ?_
        exact ih_5 (d + 1) (y + (givenF g 2 (nI (fr + d)) 0 0)) f2 (by omega) (by rw [hy]; rfl) (by omega)
  exact lp_5 ((mn - 0) + 1) 0 0 pl0 (Nat.zero_le _) rfl (Nat.lt_succ_self _)
set_option maxHeartbeats 400000 in
theorem mM_tide {G : zG} (ad : Nat → Nat) (iv g er : Nat → Int32) (pl : Nat → Int32) (fr : Int32) (to : Int32) (htx : ∀ u, u < 4 → txOk g u) : zMet G yX10_tide (ws_ yX10_tide cX10_tide 3 (some .int)) (zRm 4 0 0 150) [.ref (ad 99), .int fr, .int to] [zO (ad 99) 10 (mFs ad iv), zI (G.2.2.1 0) (ad 0) 602 g, zI (G.2.2.1 0) (ad 4) 6 er, zI (G.2.2.1 0) (ad 12) 60 pl] (fun v9 b9 => v9 = some (.int (rOf (sTide g fr to))) ∧ ∃ pl9 : Nat → Int32, b9 = [zO (ad 99) 10 (mFs ad iv), zI (G.2.2.1 0) (ad 0) 602 ((sTide g fr to).2.2), zI (G.2.2.1 0) (ad 4) 6 (eOf er (sTide g fr to)), zI (G.2.2.1 0) (ad 12) 60 pl9]) := by
  refine zMet.of (by decide +kernel) (Nat.le_of_ble_eq_true rfl) ?_
  intro p e s m args below meth c A hz hA hr hlk hnm9 Q hQ
  refine z_lv (lv' := [(0, .ref (ad 99)), (1, .int fr), (2, .int to)]) [0, 1, 2] rfl ?_
  refine z_iload_n hz dX10_tide_0 1 rfl rfl ?_
  refine z_iconst hz 0 dX10_tide_1 ki_0 ?_
  refine z_sipush hz 2399 dX10_tide_2 ks_2399 ?_
  refine z_callRD (st2 := [.int (zB (inR fr 0 2399))]) hz zKp.mt (zk_S hz (rm := (zRm 0 0 0 0)) (As := [.int fr, .int 0, .int 2399]) (rest := []) 3 q2023 q2024 q95 q2025 (by decide +kernel) ⟨Nat.le_of_ble_eq_true rfl, Nat.le_of_ble_eq_true rfl⟩ ⟨Nat.le_of_ble_eq_true rfl, Nat.le_of_ble_eq_true rfl⟩ rfl rfl (Nat.le_of_ble_eq_true rfl) dX10_tide_5) (mM_within fr 0 2399) (fun _ _ _ => zP0) rfl ?_
  refine z_ifB_eq hz 22 dX10_tide_8 (by decide) (fun c1 => ?_) (fun c1 => ?_)
  · refine z_aload_n hz dX10_tide_22 0 rfl rfl ?_
    refine z_ldc hz q2031 dX10_tide_23 ?_
    refine z_callD (bs2 := [zO (ad 99) 10 (mFs ad iv), zI (G.2.2.1 0) (ad 0) 602 g, zI (G.2.2.1 0) (ad 4) 6 (upd er 1 (er 1 + 1)), zI (G.2.2.1 0) (ad 12) 60 pl]) (st2 := [.int (-1000001)]) hz hA (zk_V hz (rm := (zRm 0 0 0 0)) (As := [.int (-1000001)]) (rest := []) 1 q2032 q2034 qs35 q95 q2035 (by decide +kernel) ⟨Nat.le_of_ble_eq_true rfl, Nat.le_of_ble_eq_true rfl⟩ ⟨Nat.le_of_ble_eq_true rfl, Nat.le_of_ble_eq_true rfl⟩ (zRecv (q := (RX10, TX10, 29)) hz (zAt.mt 0 0 rfl rfl) rfl) rfl rfl (Nat.le_of_ble_eq_true rfl) dX10_tide_25) (mM_finding ad iv er (-1000001) 1 (by decide) (by decide)) [0, 2] rfl (by decide) rfl rfl ?_
    exact z_iret hQ hz hr hlk dX10_tide_28 (by
      have e9 : sTide g fr to = (1, 0, g) := by simp [sTide, inR, nI_clamp, c1]
      rw [e9]; exact ⟨congrArg (fun z => some (Value.int z)) rE1, _, rfl⟩)
  · obtain ⟨j, j_lo, j_hi, rfl⟩ := inR_nat 0 2399 kn_0 kn_2399 (by decide) (by decide) c1
    have t_j : tN (nI j) = j := nI_clamp (by omega)
    refine z_iload_n hz dX10_tide_11 2 rfl rfl ?_
    refine z_iload_n hz dX10_tide_12 1 rfl rfl ?_
    refine z_sipush hz 2399 dX10_tide_13 ks_2399 ?_
    refine z_callRD (st2 := [.int (zB (inR to (nI j) 2399))]) hz zKp.mt (zk_S hz (rm := (zRm 0 0 0 0)) (As := [.int to, .int (nI j), .int 2399]) (rest := []) 3 q2023 q2024 q95 q2025 (by decide +kernel) ⟨Nat.le_of_ble_eq_true rfl, Nat.le_of_ble_eq_true rfl⟩ ⟨Nat.le_of_ble_eq_true rfl, Nat.le_of_ble_eq_true rfl⟩ rfl rfl (Nat.le_of_ble_eq_true rfl) dX10_tide_16) (mM_within to (nI j) 2399) (fun _ _ _ => zP0) rfl ?_
    refine z_ifB_ne hz 29 dX10_tide_19 (by decide) (fun c2 => ?_) (fun c2 => ?_)
    · obtain ⟨q, q_lo, q_hi, rfl⟩ := inR_nat j 2399 rfl kn_2399 (by decide) (by omega) c2
      have t_q : tN (nI q) = q := nI_clamp (by omega)
      refine z_aload_n hz dX10_tide_29 0 rfl rfl ?_
      refine z_iload_n hz dX10_tide_30 1 rfl rfl ?_
      refine z_iload_n hz dX10_tide_31 2 rfl rfl ?_
      refine z_iload_n hz dX10_tide_32 1 rfl rfl ?_
      refine z_isubN hz rfl rfl (by omega) dX10_tide_33 ?_
      refine z_iconst hz 1 dX10_tide_34 ki_1 ?_
      refine z_iaddN hz rfl kn_1 dX10_tide_35 ?_
      refine z_callE (bs2 := fun f3 => [zO (ad 99) 10 (mFs ad iv), zI (G.2.2.1 0) (ad 0) 602 g, zI (G.2.2.1 0) (ad 4) 6 er, zI (G.2.2.1 0) (ad 12) 60 f3]) (st2 := [.int (tidesF g j ((q - j) + 1))]) hz hA (zk_V hz (rm := (zRm 3 0 0 110)) (As := [.int (nI j), .int (nI ((q - j) + 1))]) (rest := []) 2 q2248 q2250 qs60 q95 q2251 (by decide +kernel) ⟨Nat.le_of_ble_eq_true rfl, Nat.le_of_ble_eq_true rfl⟩ ⟨Nat.le_of_ble_eq_true rfl, Nat.le_of_ble_eq_true rfl⟩ (zRecv (q := (RX10, TX10, 29)) hz (zAt.mt 0 0 rfl rfl) rfl) rfl rfl (Nat.le_of_ble_eq_true rfl) dX10_tide_36) (mM_tides ad iv g pl j ((q - j) + 1) (by omega) (by omega) htx) [0, 1, 3] rfl (by decide) (fun _ => rfl) rfl (fun f3 => ?_)
      exact z_iret hQ hz hr hlk dX10_tide_39 (by
        have e9 : sTide g (nI j) (nI q) = (0, tidesF g j ((q - j) + 1), g) := by simp [sTide, inR, nI_clamp, c1, c2, t_j, t_q]
        rw [e9]; exact ⟨congrArg (fun z => some (Value.int z)) rOf_0.symm, _, rfl⟩)
    · refine z_aload_n hz dX10_tide_22 0 rfl rfl ?_
      refine z_ldc hz q2031 dX10_tide_23 ?_
      refine z_callD (bs2 := [zO (ad 99) 10 (mFs ad iv), zI (G.2.2.1 0) (ad 0) 602 g, zI (G.2.2.1 0) (ad 4) 6 (upd er 1 (er 1 + 1)), zI (G.2.2.1 0) (ad 12) 60 pl]) (st2 := [.int (-1000001)]) hz hA (zk_V hz (rm := (zRm 0 0 0 0)) (As := [.int (-1000001)]) (rest := []) 1 q2032 q2034 qs35 q95 q2035 (by decide +kernel) ⟨Nat.le_of_ble_eq_true rfl, Nat.le_of_ble_eq_true rfl⟩ ⟨Nat.le_of_ble_eq_true rfl, Nat.le_of_ble_eq_true rfl⟩ (zRecv (q := (RX10, TX10, 29)) hz (zAt.mt 0 0 rfl rfl) rfl) rfl rfl (Nat.le_of_ble_eq_true rfl) dX10_tide_25) (mM_finding ad iv er (-1000001) 1 (by decide) (by decide)) [0, 2] rfl (by decide) rfl rfl ?_
      exact z_iret hQ hz hr hlk dX10_tide_28 (by
        have e9 : sTide g (nI j) to = (1, 0, g) := by simp [sTide, inR, nI_clamp, c1, c2, t_j]
        rw [e9]; exact ⟨congrArg (fun z => some (Value.int z)) rE1, _, rfl⟩)
set_option maxHeartbeats 400000 in
theorem mM_locked {G : zG} (ad : Nat → Nat) (iv g : Nat → Int32) (w : Nat) (gg x : Int32) (hw12 : w < 12) (t : Nat) (ht : g (152 + 4 * w + 1) = nI t) (ht1 : 1 ≤ t) (ht6 : t ≤ 600) : zRd G yX10_locked (ws_ yX10_locked cX10_locked 4 (some .int)) (zRm 1 0 0 30) [.ref (ad 99), .int (nI w), .int gg, .int x] [(ad 99, .inr (10, mFs ad iv)), (ad 0, .inl (G.2.2.1 0, 602, .inl g))] (fun v9 => v9 = some (.int (lockF g w gg x))) := by
  refine zRd.of (by decide +kernel) (Nat.le_of_ble_eq_true rfl) ?_
  intro p e s m args below meth c hz hP hr hlk Q hQ
  refine z_lv (lv' := [(0, .ref (ad 99)), (1, .int (nI w)), (2, .int gg), (3, .int x)]) [0, 1, 2, 3] rfl ?_
  refine z_iload_n hz dX10_locked_0 2 rfl rfl ?_
  refine z_iload_n hz dX10_locked_1 3 rfl rfl ?_
  refine z_aload_n hz dX10_locked_2 0 rfl rfl ?_
  refine z_iload_n hz dX10_locked_3 1 rfl rfl ?_
  refine z_iconst hz 1 dX10_locked_4 ki_1 ?_
  refine z_callRD (st2 := [.int (g (152 + 4 * w + 1)), .int x, .int gg]) hz zKp.rd (zk_V hz (rm := (zRm 0 0 0 0)) (As := [.int (nI w), .int 1]) (rest := [.int x, .int gg]) 2 q2225 q2227 qs57 q95 q2228 (by decide +kernel) ⟨Nat.le_of_ble_eq_true rfl, Nat.le_of_ble_eq_true rfl⟩ ⟨Nat.le_of_ble_eq_true rfl, Nat.le_of_ble_eq_true rfl⟩ (zRecv (q := (RX10, TX10, 29)) hz (zAt.rd hP 0 rfl) rfl) rfl rfl (Nat.le_of_ble_eq_true rfl) dX10_locked_5) (mM_way2 ad iv g w 1 (by omega)) (fun H9 L9 h9 => (zPc (zAt.rd hP 0 rfl) h9 (zPc (zAt.rd hP 1 rfl) h9 zP0))) rfl ?_
  refine z_idiv hz dX10_locked_8 (by rw [ht]; exact nI_ne0 (by omega) (by omega)) ?_
  refine z_aload_n hz dX10_locked_9 0 rfl rfl ?_
  refine z_iload_n hz dX10_locked_10 1 rfl rfl ?_
  refine z_iconst hz 2 dX10_locked_11 ki_2 ?_
  refine z_callRD (st2 := [.int (g (152 + 4 * w + 2)), .int (x / (g (152 + 4 * w + 1))), .int gg]) hz zKp.rd (zk_V hz (rm := (zRm 0 0 0 0)) (As := [.int (nI w), .int 2]) (rest := [.int (x / (g (152 + 4 * w + 1))), .int gg]) 2 q2225 q2227 qs57 q95 q2228 (by decide +kernel) ⟨Nat.le_of_ble_eq_true rfl, Nat.le_of_ble_eq_true rfl⟩ ⟨Nat.le_of_ble_eq_true rfl, Nat.le_of_ble_eq_true rfl⟩ (zRecv (q := (RX10, TX10, 29)) hz (zAt.rd hP 0 rfl) rfl) rfl rfl (Nat.le_of_ble_eq_true rfl) dX10_locked_12) (mM_way2 ad iv g w 2 (by omega)) (fun H9 L9 h9 => (zPc (zAt.rd hP 0 rfl) h9 (zPc (zAt.rd hP 1 rfl) h9 zP0))) rfl ?_
  refine z_imul hz dX10_locked_15 ?_
  refine z_mmin hz q2112 (Nat.le_of_ble_eq_true rfl) (Nat.le_of_ble_eq_true rfl) ⟨Nat.le_of_ble_eq_true rfl, Nat.le_of_ble_eq_true rfl⟩ dX10_locked_16 ?_
  exact zr_iret hQ hz hr hlk dX10_locked_19 rfl
set_option maxHeartbeats 1000000 in
theorem mM_outOf {G : zG} (ad : Nat → Nat) (iv g pl0 : Nat → Int32) (w x : Nat) (gg : Int32) (hx : x ≤ 2400) (k0 : Nat) (hn0 : g 0 = nI k0) (hk0 : k0 ≤ 2399) (nw : Nat) (hwn : w < nw) (h12 : nw ≤ 12) (hw : wayOk g nw) (htx : ∀ u, u < 4 → txOk g u) : zMet G yX10_outOf (ws_ yX10_outOf cX10_outOf 5 (some .int)) (zRm 4 0 0 150) [.ref (ad 99), .int (nI w), .int gg, .int (nI x)] [zO (ad 99) 10 (mFs ad iv), zI (G.2.2.1 0) (ad 0) 602 g, zI (G.2.2.1 0) (ad 12) 60 pl0] (fun v9 b9 => v9 = some (.int (outF g w gg (nI x))) ∧ ∃ f9 : Nat → Int32, b9 = [zO (ad 99) 10 (mFs ad iv), zI (G.2.2.1 0) (ad 0) 602 g, zI (G.2.2.1 0) (ad 12) 60 f9]) := by
  refine zMet.of (by decide +kernel) (Nat.le_of_ble_eq_true rfl) ?_
  intro p e s m args below meth c A hz hA hr hlk hnm9 Q hQ
  refine z_lv (lv' := [(0, .ref (ad 99)), (1, .int (nI w)), (2, .int gg), (3, .int (nI x))]) [0, 1, 2, 3] rfl ?_
  obtain ⟨⟨kk, hk8, hwk⟩, ⟨tw, htw1, htw6, htw⟩, -, -⟩ := hw w hwn
  have tkk : tN (nI kk) = kk := nI_clamp (by omega)
  have tk0 : tN (nI k0) = k0 := nI_clamp (by omega)
  have t_x : tN (nI x) = x := nI_clamp (by omega)
  refine z_iload_n hz dX10_outOf_0 3 rfl rfl ?_
  refine z_aload_n hz dX10_outOf_1 0 rfl rfl ?_
  refine z_iload_n hz dX10_outOf_2 1 rfl rfl ?_
  refine z_iconst hz 1 dX10_outOf_3 ki_1 ?_
  refine z_callRD (st2 := [.int (g (152 + 4 * w + 1)), .int (nI x)]) hz zKp.mt (zk_V hz (rm := (zRm 0 0 0 0)) (As := [.int (nI w), .int 1]) (rest := [.int (nI x)]) 2 q2225 q2227 qs57 q95 q2228 (by decide +kernel) ⟨Nat.le_of_ble_eq_true rfl, Nat.le_of_ble_eq_true rfl⟩ ⟨Nat.le_of_ble_eq_true rfl, Nat.le_of_ble_eq_true rfl⟩ (zRecv (q := (RX10, TX10, 29)) hz (zAt.mt 0 0 rfl rfl) rfl) rfl rfl (Nat.le_of_ble_eq_true rfl) dX10_outOf_4) (mM_way2 ad iv g w 1 (by omega)) (fun H9 L9 h9 => (zPc (zAt.mt 0 0 rfl rfl) h9 (zPc (zAt.mt 1 0 rfl rfl) h9 zP0))) rfl ?_
  refine z_icmp_lt hz 14 dX10_outOf_7 (by decide) (fun c1 => ?_) (fun c1 => ?_)
  · refine z_iconst hz 0 dX10_outOf_14 ki_0 ?_
    refine z_istore (lv' := [(0, .ref (ad 99)), (1, .int (nI w)), (2, .int gg), (3, .int (nI x)), (4, .int 0)]) hz [1, 2, 3, 4, 0] dX10_outOf_15 (by decide) rfl ?_
    refine z_aload_n hz dX10_outOf_17 0 rfl rfl ?_
    refine z_iload_n hz dX10_outOf_18 1 rfl rfl ?_
    refine z_iconst hz 0 dX10_outOf_19 ki_0 ?_
    refine z_callRD (st2 := [.int (g (152 + 4 * w))]) hz zKp.mt (zk_V hz (rm := (zRm 0 0 0 0)) (As := [.int (nI w), .int 0]) (rest := []) 2 q2225 q2227 qs57 q95 q2228 (by decide +kernel) ⟨Nat.le_of_ble_eq_true rfl, Nat.le_of_ble_eq_true rfl⟩ ⟨Nat.le_of_ble_eq_true rfl, Nat.le_of_ble_eq_true rfl⟩ (zRecv (q := (RX10, TX10, 29)) hz (zAt.mt 0 0 rfl rfl) rfl) rfl rfl (Nat.le_of_ble_eq_true rfl) dX10_outOf_20) (mM_way2 ad iv g w 0 (by omega)) (fun H9 L9 h9 => (zPc (zAt.mt 0 0 rfl rfl) h9 (zPc (zAt.mt 1 0 rfl rfl) h9 zP0))) rfl ?_
    refine z_top hwk ?_
    by_cases c2 : kk = 1
    · refine z_tabIn hz 41 64 dX10_outOf_23 (by rw [c2]; decide) (by rw [c2]; decide) (by rw [c2]; decide) (by decide) ?_
      refine z_aload_n hz dX10_outOf_64 0 rfl rfl ?_
      refine z_iload_n hz dX10_outOf_65 1 rfl rfl ?_
      refine z_iload_n hz dX10_outOf_66 2 rfl rfl ?_
      refine z_iload_n hz dX10_outOf_67 3 rfl rfl ?_
      refine z_callRD (st2 := [.int (lockF g w gg (nI x))]) hz zKp.mt (zk_V hz (rm := (zRm 1 0 0 30)) (As := [.int (nI w), .int gg, .int (nI x)]) (rest := []) 3 q2244 q2246 qs59 q95 q2247 (by decide +kernel) ⟨Nat.le_of_ble_eq_true rfl, Nat.le_of_ble_eq_true rfl⟩ ⟨Nat.le_of_ble_eq_true rfl, Nat.le_of_ble_eq_true rfl⟩ (zRecv (q := (RX10, TX10, 29)) hz (zAt.mt 0 0 rfl rfl) rfl) rfl rfl (Nat.le_of_ble_eq_true rfl) dX10_outOf_68) (mM_locked ad iv g w gg (nI x) (by omega) tw htw htw1 htw6) (fun H9 L9 h9 => (zPc (zAt.mt 0 0 rfl rfl) h9 (zPc (zAt.mt 1 0 rfl rfl) h9 zP0))) rfl ?_
      exact z_iret hQ hz hr hlk dX10_outOf_71 ⟨(by rw [outF, hwk, tkk]; simp [outK, Int32.not_le.mpr c1, c2, hn0, tk0, t_x]), _, rfl⟩
    ·
      skip
      by_cases c3 : kk = 2
      · refine z_tabIn hz 49 72 dX10_outOf_23 (by rw [c3]; decide) (by rw [c3]; decide) (by rw [c3]; decide) (by decide) ?_
        refine z_iload hz dX10_outOf_72 4 rfl ?_
        refine z_if_eqT hz 93 dX10_outOf_74 (by decide) (by decide) ?_
        refine z_iconst hz 0 dX10_outOf_93 ki_0 ?_
        exact z_iret hQ hz hr hlk dX10_outOf_94 ⟨(by rw [outF, hwk, tkk]; simp [outK, Int32.not_le.mpr c1, c2, c3, hn0, tk0, t_x]), _, rfl⟩
      ·
        skip
        by_cases c4 : kk = 3
        · refine z_tabIn hz 72 95 dX10_outOf_23 (by rw [c4]; decide) (by rw [c4]; decide) (by rw [c4]; decide) (by decide) ?_
          refine z_aload_n hz dX10_outOf_95 0 rfl rfl ?_
          refine z_iload_n hz dX10_outOf_96 1 rfl rfl ?_
          refine z_iload_n hz dX10_outOf_97 2 rfl rfl ?_
          refine z_aload_n hz dX10_outOf_98 0 rfl rfl ?_
          refine z_aload_n hz dX10_outOf_99 0 rfl rfl ?_
          refine z_get (C := RX10) (T := TX10) (N := 29) hz in_X10 (zAt.mt 0 0 rfl rfl) rfl 0 (by decide) q1929 (fun _ h9 => h9) rfl dX10_outOf_100 ?_
          refine z_iconst hz 0 dX10_outOf_103 ki_0 ?_
          refine z_iald hz (zAt.mt 1 0 rfl rfl) kn_0 (by decide) (by decide) dX10_outOf_104 ?_
          refine z_top hn0 ?_
          refine z_iload_n hz dX10_outOf_105 3 rfl rfl ?_
          refine z_callE (bs2 := fun f5 => [zO (ad 99) 10 (mFs ad iv), zI (G.2.2.1 0) (ad 0) 602 g, zI (G.2.2.1 0) (ad 12) 60 f5]) (st2 := [.int (tidesF g k0 x), .int gg, .int (nI w), .ref (ad 99)]) hz hA (zk_V hz (rm := (zRm 3 0 0 110)) (As := [.int (nI k0), .int (nI x)]) (rest := [.int gg, .int (nI w), .ref (ad 99)]) 2 q2248 q2250 qs60 q95 q2251 (by decide +kernel) ⟨Nat.le_of_ble_eq_true rfl, Nat.le_of_ble_eq_true rfl⟩ ⟨Nat.le_of_ble_eq_true rfl, Nat.le_of_ble_eq_true rfl⟩ (zRecv (q := (RX10, TX10, 29)) hz (zAt.mt 0 0 rfl rfl) rfl) rfl rfl (Nat.le_of_ble_eq_true rfl) dX10_outOf_106) (mM_tides ad iv g pl0 k0 x (by omega) (by omega) htx) [0, 1, 2] rfl (by decide) (fun _ => rfl) rfl (fun f5 => ?_)
          refine z_callRD (st2 := [.int (lockF g w gg (tidesF g k0 x))]) hz zKp.mt (zk_V hz (rm := (zRm 1 0 0 30)) (As := [.int (nI w), .int gg, .int (tidesF g k0 x)]) (rest := []) 3 q2244 q2246 qs59 q95 q2247 (by decide +kernel) ⟨Nat.le_of_ble_eq_true rfl, Nat.le_of_ble_eq_true rfl⟩ ⟨Nat.le_of_ble_eq_true rfl, Nat.le_of_ble_eq_true rfl⟩ (zRecv (q := (RX10, TX10, 29)) hz (zAt.mt 0 0 rfl rfl) rfl) rfl rfl (Nat.le_of_ble_eq_true rfl) dX10_outOf_109) (mM_locked ad iv g w gg (tidesF g k0 x) (by omega) tw htw htw1 htw6) (fun H9 L9 h9 => (zPc (zAt.mt 0 0 rfl rfl) h9 (zPc (zAt.mt 1 0 rfl rfl) h9 zP0))) rfl ?_
          exact z_iret hQ hz hr hlk dX10_outOf_112 ⟨(by rw [outF, hwk, tkk]; simp [outK, Int32.not_le.mpr c1, c2, c3, c4, hn0, tk0, t_x]), _, rfl⟩
        ·
          skip
          by_cases c6 : kk = 4
          · refine z_tabIn hz 90 113 dX10_outOf_23 (by rw [c6]; decide) (by rw [c6]; decide) (by rw [c6]; decide) (by decide) ?_
            refine z_iload hz dX10_outOf_113 4 rfl ?_
            refine z_if_eqT hz 122 dX10_outOf_115 (by decide) (by decide) ?_
            refine z_iconst hz 0 dX10_outOf_122 ki_0 ?_
            exact z_iret hQ hz hr hlk dX10_outOf_123 ⟨(by rw [outF, hwk, tkk]; simp [outK, Int32.not_le.mpr c1, c2, c3, c4, c6, hn0, tk0, t_x]), _, rfl⟩
          ·
            skip
            by_cases c7 : kk = 5
            · refine z_tabIn hz 130 153 dX10_outOf_23 (by rw [c7]; decide) (by rw [c7]; decide) (by rw [c7]; decide) (by decide) ?_
              refine z_iconst hz 0 dX10_outOf_153 ki_0 ?_
              exact z_iret hQ hz hr hlk dX10_outOf_154 ⟨(by rw [outF, hwk, tkk]; simp [outK, Int32.not_le.mpr c1, c2, c3, c4, c6, c7, hn0, tk0, t_x]), _, rfl⟩
            ·
              skip
              by_cases c8 : kk = 6
              · refine z_tabIn hz 101 124 dX10_outOf_23 (by rw [c8]; decide) (by rw [c8]; decide) (by rw [c8]; decide) (by decide) ?_
                refine z_iconst hz 0 dX10_outOf_124 ki_0 ?_
                refine z_aload_n hz dX10_outOf_125 0 rfl rfl ?_
                refine z_iload_n hz dX10_outOf_126 1 rfl rfl ?_
                refine z_iload_n hz dX10_outOf_127 2 rfl rfl ?_
                refine z_iload_n hz dX10_outOf_128 3 rfl rfl ?_
                refine z_callRD (st2 := [.int (lockF g w gg (nI x)), .int 0]) hz zKp.mt (zk_V hz (rm := (zRm 1 0 0 30)) (As := [.int (nI w), .int gg, .int (nI x)]) (rest := [.int 0]) 3 q2244 q2246 qs59 q95 q2247 (by decide +kernel) ⟨Nat.le_of_ble_eq_true rfl, Nat.le_of_ble_eq_true rfl⟩ ⟨Nat.le_of_ble_eq_true rfl, Nat.le_of_ble_eq_true rfl⟩ (zRecv (q := (RX10, TX10, 29)) hz (zAt.mt 0 0 rfl rfl) rfl) rfl rfl (Nat.le_of_ble_eq_true rfl) dX10_outOf_129) (mM_locked ad iv g w gg (nI x) (by omega) tw htw htw1 htw6) (fun H9 L9 h9 => (zPc (zAt.mt 0 0 rfl rfl) h9 (zPc (zAt.mt 1 0 rfl rfl) h9 zP0))) rfl ?_
                refine z_iconst hz 1 dX10_outOf_132 ki_1 ?_
                refine z_isub hz dX10_outOf_133 ?_
                refine z_mmax hz q2113 (Nat.le_of_ble_eq_true rfl) (Nat.le_of_ble_eq_true rfl) ⟨Nat.le_of_ble_eq_true rfl, Nat.le_of_ble_eq_true rfl⟩ dX10_outOf_134 ?_
                exact z_iret hQ hz hr hlk dX10_outOf_137 ⟨(by rw [outF, hwk, tkk]; simp [outK, Int32.not_le.mpr c1, c2, c3, c4, c6, c7, c8, hn0, tk0, t_x]), _, rfl⟩
              ·
                skip
                by_cases c9 : kk = 7
                · refine z_tabIn hz 115 138 dX10_outOf_23 (by rw [c9]; decide) (by rw [c9]; decide) (by rw [c9]; decide) (by decide) ?_
                  refine z_iload hz dX10_outOf_138 4 rfl ?_
                  refine z_if_eqT hz 151 dX10_outOf_140 (by decide) (by decide) ?_
                  refine z_iconst hz 0 dX10_outOf_151 ki_0 ?_
                  exact z_iret hQ hz hr hlk dX10_outOf_152 ⟨(by rw [outF, hwk, tkk]; simp [outK, Int32.not_le.mpr c1, c2, c3, c4, c6, c7, c8, c9, hn0, tk0, t_x]), _, rfl⟩
                ·
                  skip
                  refine z_tabOut hz 153 dX10_outOf_23 (by rw [nI_toInt (by omega)]; omega) (by decide) ?_
                  refine z_iconst hz 0 dX10_outOf_153 ki_0 ?_
                  exact z_iret hQ hz hr hlk dX10_outOf_154 ⟨(by rw [outF, hwk, tkk]; simp [outK, Int32.not_le.mpr c1, c2, c3, c4, c6, c7, c8, c9, hn0, tk0, t_x]), _, rfl⟩
  · refine z_iconst hz 1 dX10_outOf_10 ki_1 ?_
    refine z_goto hz 15 dX10_outOf_11 (by decide) ?_
    refine z_istore (lv' := [(0, .ref (ad 99)), (1, .int (nI w)), (2, .int gg), (3, .int (nI x)), (4, .int 1)]) hz [1, 2, 3, 4, 0] dX10_outOf_15 (by decide) rfl ?_
    refine z_aload_n hz dX10_outOf_17 0 rfl rfl ?_
    refine z_iload_n hz dX10_outOf_18 1 rfl rfl ?_
    refine z_iconst hz 0 dX10_outOf_19 ki_0 ?_
    refine z_callRD (st2 := [.int (g (152 + 4 * w))]) hz zKp.mt (zk_V hz (rm := (zRm 0 0 0 0)) (As := [.int (nI w), .int 0]) (rest := []) 2 q2225 q2227 qs57 q95 q2228 (by decide +kernel) ⟨Nat.le_of_ble_eq_true rfl, Nat.le_of_ble_eq_true rfl⟩ ⟨Nat.le_of_ble_eq_true rfl, Nat.le_of_ble_eq_true rfl⟩ (zRecv (q := (RX10, TX10, 29)) hz (zAt.mt 0 0 rfl rfl) rfl) rfl rfl (Nat.le_of_ble_eq_true rfl) dX10_outOf_20) (mM_way2 ad iv g w 0 (by omega)) (fun H9 L9 h9 => (zPc (zAt.mt 0 0 rfl rfl) h9 (zPc (zAt.mt 1 0 rfl rfl) h9 zP0))) rfl ?_
    refine z_top hwk ?_
    by_cases c10 : kk = 1
    · refine z_tabIn hz 41 64 dX10_outOf_23 (by rw [c10]; decide) (by rw [c10]; decide) (by rw [c10]; decide) (by decide) ?_
      refine z_aload_n hz dX10_outOf_64 0 rfl rfl ?_
      refine z_iload_n hz dX10_outOf_65 1 rfl rfl ?_
      refine z_iload_n hz dX10_outOf_66 2 rfl rfl ?_
      refine z_iload_n hz dX10_outOf_67 3 rfl rfl ?_
      refine z_callRD (st2 := [.int (lockF g w gg (nI x))]) hz zKp.mt (zk_V hz (rm := (zRm 1 0 0 30)) (As := [.int (nI w), .int gg, .int (nI x)]) (rest := []) 3 q2244 q2246 qs59 q95 q2247 (by decide +kernel) ⟨Nat.le_of_ble_eq_true rfl, Nat.le_of_ble_eq_true rfl⟩ ⟨Nat.le_of_ble_eq_true rfl, Nat.le_of_ble_eq_true rfl⟩ (zRecv (q := (RX10, TX10, 29)) hz (zAt.mt 0 0 rfl rfl) rfl) rfl rfl (Nat.le_of_ble_eq_true rfl) dX10_outOf_68) (mM_locked ad iv g w gg (nI x) (by omega) tw htw htw1 htw6) (fun H9 L9 h9 => (zPc (zAt.mt 0 0 rfl rfl) h9 (zPc (zAt.mt 1 0 rfl rfl) h9 zP0))) rfl ?_
      exact z_iret hQ hz hr hlk dX10_outOf_71 ⟨(by rw [outF, hwk, tkk]; simp [outK, Int32.not_lt.mp c1, c10, hn0, tk0, t_x]), _, rfl⟩
    ·
      skip
      by_cases c11 : kk = 2
      · refine z_tabIn hz 49 72 dX10_outOf_23 (by rw [c11]; decide) (by rw [c11]; decide) (by rw [c11]; decide) (by decide) ?_
        refine z_iload hz dX10_outOf_72 4 rfl ?_
        refine z_if_eqF hz 93 dX10_outOf_74 (by decide) (by decide) ?_
        refine z_iload_n hz dX10_outOf_77 2 rfl rfl ?_
        refine z_iload_n hz dX10_outOf_78 2 rfl rfl ?_
        refine z_aload_n hz dX10_outOf_79 0 rfl rfl ?_
        refine z_iload_n hz dX10_outOf_80 1 rfl rfl ?_
        refine z_iconst hz 3 dX10_outOf_81 ki_3 ?_
        refine z_callRD (st2 := [.int (g (152 + 4 * w + 3)), .int gg, .int gg]) hz zKp.mt (zk_V hz (rm := (zRm 0 0 0 0)) (As := [.int (nI w), .int 3]) (rest := [.int gg, .int gg]) 2 q2225 q2227 qs57 q95 q2228 (by decide +kernel) ⟨Nat.le_of_ble_eq_true rfl, Nat.le_of_ble_eq_true rfl⟩ ⟨Nat.le_of_ble_eq_true rfl, Nat.le_of_ble_eq_true rfl⟩ (zRecv (q := (RX10, TX10, 29)) hz (zAt.mt 0 0 rfl rfl) rfl) rfl rfl (Nat.le_of_ble_eq_true rfl) dX10_outOf_82) (mM_way2 ad iv g w 3 (by omega)) (fun H9 L9 h9 => (zPc (zAt.mt 0 0 rfl rfl) h9 (zPc (zAt.mt 1 0 rfl rfl) h9 zP0))) rfl ?_
        refine z_imul hz dX10_outOf_85 ?_
        refine z_bipush hz 100 dX10_outOf_86 kb_100 ?_
        refine z_idiv hz dX10_outOf_88 (by decide) ?_
        refine z_isub hz dX10_outOf_89 ?_
        refine z_goto hz 94 dX10_outOf_90 (by decide) ?_
        exact z_iret hQ hz hr hlk dX10_outOf_94 ⟨(by rw [outF, hwk, tkk]; simp [outK, Int32.not_lt.mp c1, c10, c11, hn0, tk0, t_x]), _, rfl⟩
      ·
        skip
        by_cases c12 : kk = 3
        · refine z_tabIn hz 72 95 dX10_outOf_23 (by rw [c12]; decide) (by rw [c12]; decide) (by rw [c12]; decide) (by decide) ?_
          refine z_aload_n hz dX10_outOf_95 0 rfl rfl ?_
          refine z_iload_n hz dX10_outOf_96 1 rfl rfl ?_
          refine z_iload_n hz dX10_outOf_97 2 rfl rfl ?_
          refine z_aload_n hz dX10_outOf_98 0 rfl rfl ?_
          refine z_aload_n hz dX10_outOf_99 0 rfl rfl ?_
          refine z_get (C := RX10) (T := TX10) (N := 29) hz in_X10 (zAt.mt 0 0 rfl rfl) rfl 0 (by decide) q1929 (fun _ h9 => h9) rfl dX10_outOf_100 ?_
          refine z_iconst hz 0 dX10_outOf_103 ki_0 ?_
          refine z_iald hz (zAt.mt 1 0 rfl rfl) kn_0 (by decide) (by decide) dX10_outOf_104 ?_
          refine z_top hn0 ?_
          refine z_iload_n hz dX10_outOf_105 3 rfl rfl ?_
          refine z_callE (bs2 := fun f13 => [zO (ad 99) 10 (mFs ad iv), zI (G.2.2.1 0) (ad 0) 602 g, zI (G.2.2.1 0) (ad 12) 60 f13]) (st2 := [.int (tidesF g k0 x), .int gg, .int (nI w), .ref (ad 99)]) hz hA (zk_V hz (rm := (zRm 3 0 0 110)) (As := [.int (nI k0), .int (nI x)]) (rest := [.int gg, .int (nI w), .ref (ad 99)]) 2 q2248 q2250 qs60 q95 q2251 (by decide +kernel) ⟨Nat.le_of_ble_eq_true rfl, Nat.le_of_ble_eq_true rfl⟩ ⟨Nat.le_of_ble_eq_true rfl, Nat.le_of_ble_eq_true rfl⟩ (zRecv (q := (RX10, TX10, 29)) hz (zAt.mt 0 0 rfl rfl) rfl) rfl rfl (Nat.le_of_ble_eq_true rfl) dX10_outOf_106) (mM_tides ad iv g pl0 k0 x (by omega) (by omega) htx) [0, 1, 2] rfl (by decide) (fun _ => rfl) rfl (fun f13 => ?_)
          refine z_callRD (st2 := [.int (lockF g w gg (tidesF g k0 x))]) hz zKp.mt (zk_V hz (rm := (zRm 1 0 0 30)) (As := [.int (nI w), .int gg, .int (tidesF g k0 x)]) (rest := []) 3 q2244 q2246 qs59 q95 q2247 (by decide +kernel) ⟨Nat.le_of_ble_eq_true rfl, Nat.le_of_ble_eq_true rfl⟩ ⟨Nat.le_of_ble_eq_true rfl, Nat.le_of_ble_eq_true rfl⟩ (zRecv (q := (RX10, TX10, 29)) hz (zAt.mt 0 0 rfl rfl) rfl) rfl rfl (Nat.le_of_ble_eq_true rfl) dX10_outOf_109) (mM_locked ad iv g w gg (tidesF g k0 x) (by omega) tw htw htw1 htw6) (fun H9 L9 h9 => (zPc (zAt.mt 0 0 rfl rfl) h9 (zPc (zAt.mt 1 0 rfl rfl) h9 zP0))) rfl ?_
          exact z_iret hQ hz hr hlk dX10_outOf_112 ⟨(by rw [outF, hwk, tkk]; simp [outK, Int32.not_lt.mp c1, c10, c11, c12, hn0, tk0, t_x]), _, rfl⟩
        ·
          skip
          by_cases c14 : kk = 4
          · refine z_tabIn hz 90 113 dX10_outOf_23 (by rw [c14]; decide) (by rw [c14]; decide) (by rw [c14]; decide) (by decide) ?_
            refine z_iload hz dX10_outOf_113 4 rfl ?_
            refine z_if_eqF hz 122 dX10_outOf_115 (by decide) (by decide) ?_
            refine z_iload_n hz dX10_outOf_118 2 rfl rfl ?_
            refine z_goto hz 123 dX10_outOf_119 (by decide) ?_
            exact z_iret hQ hz hr hlk dX10_outOf_123 ⟨(by rw [outF, hwk, tkk]; simp [outK, Int32.not_lt.mp c1, c10, c11, c12, c14, hn0, tk0, t_x]), _, rfl⟩
          ·
            skip
            by_cases c15 : kk = 5
            · refine z_tabIn hz 130 153 dX10_outOf_23 (by rw [c15]; decide) (by rw [c15]; decide) (by rw [c15]; decide) (by decide) ?_
              refine z_iconst hz 0 dX10_outOf_153 ki_0 ?_
              exact z_iret hQ hz hr hlk dX10_outOf_154 ⟨(by rw [outF, hwk, tkk]; simp [outK, Int32.not_lt.mp c1, c10, c11, c12, c14, c15, hn0, tk0, t_x]), _, rfl⟩
            ·
              skip
              by_cases c16 : kk = 6
              · refine z_tabIn hz 101 124 dX10_outOf_23 (by rw [c16]; decide) (by rw [c16]; decide) (by rw [c16]; decide) (by decide) ?_
                refine z_iconst hz 0 dX10_outOf_124 ki_0 ?_
                refine z_aload_n hz dX10_outOf_125 0 rfl rfl ?_
                refine z_iload_n hz dX10_outOf_126 1 rfl rfl ?_
                refine z_iload_n hz dX10_outOf_127 2 rfl rfl ?_
                refine z_iload_n hz dX10_outOf_128 3 rfl rfl ?_
                refine z_callRD (st2 := [.int (lockF g w gg (nI x)), .int 0]) hz zKp.mt (zk_V hz (rm := (zRm 1 0 0 30)) (As := [.int (nI w), .int gg, .int (nI x)]) (rest := [.int 0]) 3 q2244 q2246 qs59 q95 q2247 (by decide +kernel) ⟨Nat.le_of_ble_eq_true rfl, Nat.le_of_ble_eq_true rfl⟩ ⟨Nat.le_of_ble_eq_true rfl, Nat.le_of_ble_eq_true rfl⟩ (zRecv (q := (RX10, TX10, 29)) hz (zAt.mt 0 0 rfl rfl) rfl) rfl rfl (Nat.le_of_ble_eq_true rfl) dX10_outOf_129) (mM_locked ad iv g w gg (nI x) (by omega) tw htw htw1 htw6) (fun H9 L9 h9 => (zPc (zAt.mt 0 0 rfl rfl) h9 (zPc (zAt.mt 1 0 rfl rfl) h9 zP0))) rfl ?_
                refine z_iconst hz 1 dX10_outOf_132 ki_1 ?_
                refine z_isub hz dX10_outOf_133 ?_
                refine z_mmax hz q2113 (Nat.le_of_ble_eq_true rfl) (Nat.le_of_ble_eq_true rfl) ⟨Nat.le_of_ble_eq_true rfl, Nat.le_of_ble_eq_true rfl⟩ dX10_outOf_134 ?_
                exact z_iret hQ hz hr hlk dX10_outOf_137 ⟨(by rw [outF, hwk, tkk]; simp [outK, Int32.not_lt.mp c1, c10, c11, c12, c14, c15, c16, hn0, tk0, t_x]), _, rfl⟩
              ·
                skip
                by_cases c17 : kk = 7
                · refine z_tabIn hz 115 138 dX10_outOf_23 (by rw [c17]; decide) (by rw [c17]; decide) (by rw [c17]; decide) (by decide) ?_
                  refine z_iload hz dX10_outOf_138 4 rfl ?_
                  refine z_if_eqF hz 151 dX10_outOf_140 (by decide) (by decide) ?_
                  refine z_iload_n hz dX10_outOf_143 2 rfl rfl ?_
                  refine z_if_le hz 151 dX10_outOf_144 (by decide) (fun c18 => ?_) (fun c18 => ?_)
                  · refine z_iconst hz 0 dX10_outOf_151 ki_0 ?_
                    exact z_iret hQ hz hr hlk dX10_outOf_152 ⟨(by rw [outF, hwk, tkk]; simp [outK, Int32.not_lt.mp c1, c10, c11, c12, c14, c15, c16, c17, Int32.not_lt.mpr c18, hn0, tk0, t_x]), _, rfl⟩
                  · refine z_iconst hz 1 dX10_outOf_147 ki_1 ?_
                    refine z_goto hz 152 dX10_outOf_148 (by decide) ?_
                    exact z_iret hQ hz hr hlk dX10_outOf_152 ⟨(by rw [outF, hwk, tkk]; simp [outK, Int32.not_lt.mp c1, c10, c11, c12, c14, c15, c16, c17, Int32.not_le.mp c18, hn0, tk0, t_x]), _, rfl⟩
                ·
                  skip
                  refine z_tabOut hz 153 dX10_outOf_23 (by rw [nI_toInt (by omega)]; omega) (by decide) ?_
                  refine z_iconst hz 0 dX10_outOf_153 ki_0 ?_
                  exact z_iret hQ hz hr hlk dX10_outOf_154 ⟨(by rw [outF, hwk, tkk]; simp [outK, Int32.not_lt.mp c1, c10, c11, c12, c14, c15, c16, c17, hn0, tk0, t_x]), _, rfl⟩
set_option maxHeartbeats 400000 in
theorem mM_areOut {G : zG} (gg x : Int32) : zRd G yX10_areOut (ws_ yX10_areOut cX10_areOut 2 (some .boolean)) (zRm 1 0 0 30) [.int gg, .int x] [] (fun v9 => v9 = some (.int (zB (areOutP gg x)))) := by
  refine zRd.of (by decide +kernel) (Nat.le_of_ble_eq_true rfl) ?_
  intro p e s m args below meth c hz hP hr hlk Q hQ
  refine z_lv (lv' := [(0, .int gg), (1, .int x)]) [0, 1] rfl ?_
  refine z_iload_n hz dX10_areOut_0 0 rfl rfl ?_
  refine z_iconst hz 0 dX10_areOut_1 ki_0 ?_
  refine z_bipush hz 99 dX10_areOut_2 kb_99 ?_
  refine z_callRD (st2 := [.int (zB (inR gg 0 99))]) hz zKp.rd (zk_S hz (rm := (zRm 0 0 0 0)) (As := [.int gg, .int 0, .int 99]) (rest := []) 3 q2023 q2024 q95 q2025 (by decide +kernel) ⟨Nat.le_of_ble_eq_true rfl, Nat.le_of_ble_eq_true rfl⟩ ⟨Nat.le_of_ble_eq_true rfl, Nat.le_of_ble_eq_true rfl⟩ rfl rfl (Nat.le_of_ble_eq_true rfl) dX10_areOut_4) (mM_within gg 0 99) (fun _ _ _ => zP0) rfl ?_
  refine z_ifB_eq hz 25 dX10_areOut_7 (by decide) (fun c1 => ?_) (fun c1 => ?_)
  · refine z_iconst hz 0 dX10_areOut_25 ki_0 ?_
    exact zr_zret hQ hz hr hlk (by decide) dX10_areOut_26 (by simp [zB, areOutP, inR, c1])
  · refine z_iload_n hz dX10_areOut_10 1 rfl rfl ?_
    refine z_iconst hz 0 dX10_areOut_11 ki_0 ?_
    refine z_sipush hz 2400 dX10_areOut_12 ks_2400 ?_
    refine z_callRD (st2 := [.int (zB (inR x 0 2400))]) hz zKp.rd (zk_S hz (rm := (zRm 0 0 0 0)) (As := [.int x, .int 0, .int 2400]) (rest := []) 3 q2023 q2024 q95 q2025 (by decide +kernel) ⟨Nat.le_of_ble_eq_true rfl, Nat.le_of_ble_eq_true rfl⟩ ⟨Nat.le_of_ble_eq_true rfl, Nat.le_of_ble_eq_true rfl⟩ rfl rfl (Nat.le_of_ble_eq_true rfl) dX10_areOut_15) (mM_within x 0 2400) (fun _ _ _ => zP0) rfl ?_
    refine z_ifB_eq hz 25 dX10_areOut_18 (by decide) (fun c2 => ?_) (fun c2 => ?_)
    · refine z_iconst hz 0 dX10_areOut_25 ki_0 ?_
      exact zr_zret hQ hz hr hlk (by decide) dX10_areOut_26 (by simp [zB, areOutP, inR, c1, c2])
    · refine z_iconst hz 1 dX10_areOut_21 ki_1 ?_
      refine z_goto hz 26 dX10_areOut_22 (by decide) ?_
      exact zr_zret hQ hz hr hlk (by decide) dX10_areOut_26 (by simp [zB, areOutP, inR, c1, c2])
set_option maxHeartbeats 400000 in
theorem mM_out {G : zG} (ad : Nat → Nat) (iv g er : Nat → Int32) (pl : Nat → Int32) (way : Int32) (gg : Int32) (x : Int32) (k0 : Nat) (hn0 : g 0 = nI k0) (hk0 : k0 ≤ 2399) (nw : Nat) (hnw : g 3 = nI nw) (h12 : nw ≤ 12) (hw : wayOk g nw) (htx : ∀ u, u < 4 → txOk g u) : zMet G yX10_out (ws_ yX10_out cX10_out 4 (some .int)) (zRm 5 0 0 190) [.ref (ad 99), .int way, .int gg, .int x] [zO (ad 99) 10 (mFs ad iv), zI (G.2.2.1 0) (ad 0) 602 g, zI (G.2.2.1 0) (ad 4) 6 er, zI (G.2.2.1 0) (ad 12) 60 pl] (fun v9 b9 => v9 = some (.int (rOf (sOut g way gg x))) ∧ ∃ pl9 : Nat → Int32, b9 = [zO (ad 99) 10 (mFs ad iv), zI (G.2.2.1 0) (ad 0) 602 ((sOut g way gg x).2.2), zI (G.2.2.1 0) (ad 4) 6 (eOf er (sOut g way gg x)), zI (G.2.2.1 0) (ad 12) 60 pl9]) := by
  refine zMet.of (by decide +kernel) (Nat.le_of_ble_eq_true rfl) ?_
  intro p e s m args below meth c A hz hA hr hlk hnm9 Q hQ
  refine z_lv (lv' := [(0, .ref (ad 99)), (1, .int way), (2, .int gg), (3, .int x)]) [0, 1, 2, 3] rfl ?_
  refine z_aload_n hz dX10_out_0 0 rfl rfl ?_
  refine z_iload_n hz dX10_out_1 1 rfl rfl ?_
  refine z_iconst hz 3 dX10_out_2 ki_3 ?_
  refine z_callRD (st2 := [.int (zB (inR way 0 (g 3 - 1)))]) hz zKp.mt (zk_V hz (rm := (zRm 1 0 0 30)) (As := [.int way, .int 3]) (rest := []) 2 q2053 q2055 qs37 q95 q2056 (by decide +kernel) ⟨Nat.le_of_ble_eq_true rfl, Nat.le_of_ble_eq_true rfl⟩ ⟨Nat.le_of_ble_eq_true rfl, Nat.le_of_ble_eq_true rfl⟩ (zRecv (q := (RX10, TX10, 29)) hz (zAt.mt 0 0 rfl rfl) rfl) rfl rfl (Nat.le_of_ble_eq_true rfl) dX10_out_3) (mM_is ad iv g way 3 (by decide)) (fun H9 L9 h9 => (zPc (zAt.mt 0 0 rfl rfl) h9 (zPc (zAt.mt 1 0 rfl rfl) h9 zP0))) rfl ?_
  refine z_ifB_eq hz 27 dX10_out_6 (by decide) (fun c1 => ?_) (fun c1 => ?_)
  · refine z_aload_n hz dX10_out_27 0 rfl rfl ?_
    refine z_ldc hz q2031 dX10_out_28 ?_
    refine z_callD (bs2 := [zO (ad 99) 10 (mFs ad iv), zI (G.2.2.1 0) (ad 0) 602 g, zI (G.2.2.1 0) (ad 4) 6 (upd er 1 (er 1 + 1)), zI (G.2.2.1 0) (ad 12) 60 pl]) (st2 := [.int (-1000001)]) hz hA (zk_V hz (rm := (zRm 0 0 0 0)) (As := [.int (-1000001)]) (rest := []) 1 q2032 q2034 qs35 q95 q2035 (by decide +kernel) ⟨Nat.le_of_ble_eq_true rfl, Nat.le_of_ble_eq_true rfl⟩ ⟨Nat.le_of_ble_eq_true rfl, Nat.le_of_ble_eq_true rfl⟩ (zRecv (q := (RX10, TX10, 29)) hz (zAt.mt 0 0 rfl rfl) rfl) rfl rfl (Nat.le_of_ble_eq_true rfl) dX10_out_30) (mM_finding ad iv er (-1000001) 1 (by decide) (by decide)) [0, 2] rfl (by decide) rfl rfl ?_
    exact z_iret hQ hz hr hlk dX10_out_33 (by
      have e9 : sOut g way gg x = (1, 0, g) := by simp [sOut, inR, nI_clamp, c1]
      rw [e9]; exact ⟨congrArg (fun z => some (Value.int z)) rE1, _, rfl⟩)
  · obtain ⟨j, j_lt, rfl⟩ := is_nat hnw (by omega) c1
    have t_j : tN (nI j) = j := nI_clamp (by omega)
    refine z_iload_n hz dX10_out_9 2 rfl rfl ?_
    refine z_iload_n hz dX10_out_10 3 rfl rfl ?_
    refine z_callRD (st2 := [.int (zB (areOutP gg x))]) hz zKp.mt (zk_S hz (rm := (zRm 1 0 0 30)) (As := [.int gg, .int x]) (rest := []) 2 q2237 q2238 q95 q2239 (by decide +kernel) ⟨Nat.le_of_ble_eq_true rfl, Nat.le_of_ble_eq_true rfl⟩ ⟨Nat.le_of_ble_eq_true rfl, Nat.le_of_ble_eq_true rfl⟩ rfl rfl (Nat.le_of_ble_eq_true rfl) dX10_out_11) (mM_areOut gg x) (fun _ _ _ => zP0) rfl ?_
    refine z_ifB_eq hz 27 dX10_out_14 (by decide) (fun c2 => ?_) (fun c2 => ?_)
    · refine z_aload_n hz dX10_out_27 0 rfl rfl ?_
      refine z_ldc hz q2031 dX10_out_28 ?_
      refine z_callD (bs2 := [zO (ad 99) 10 (mFs ad iv), zI (G.2.2.1 0) (ad 0) 602 g, zI (G.2.2.1 0) (ad 4) 6 (upd er 1 (er 1 + 1)), zI (G.2.2.1 0) (ad 12) 60 pl]) (st2 := [.int (-1000001)]) hz hA (zk_V hz (rm := (zRm 0 0 0 0)) (As := [.int (-1000001)]) (rest := []) 1 q2032 q2034 qs35 q95 q2035 (by decide +kernel) ⟨Nat.le_of_ble_eq_true rfl, Nat.le_of_ble_eq_true rfl⟩ ⟨Nat.le_of_ble_eq_true rfl, Nat.le_of_ble_eq_true rfl⟩ (zRecv (q := (RX10, TX10, 29)) hz (zAt.mt 0 0 rfl rfl) rfl) rfl rfl (Nat.le_of_ble_eq_true rfl) dX10_out_30) (mM_finding ad iv er (-1000001) 1 (by decide) (by decide)) [0, 2] rfl (by decide) rfl rfl ?_
      exact z_iret hQ hz hr hlk dX10_out_33 (by
        have e9 : sOut g (nI j) gg x = (1, 0, g) := by simp [sOut, inR, nI_clamp, c1, c2, t_j]
        rw [e9]; exact ⟨congrArg (fun z => some (Value.int z)) rE1, _, rfl⟩)
    · obtain ⟨xx, -, xx_hi, rfl⟩ := inR_nat 0 2400 kn_0 kn_2400 (by decide) (by decide) c2.2
      have t_xx : tN (nI xx) = xx := nI_clamp (by omega)
      refine z_aload_n hz dX10_out_17 0 rfl rfl ?_
      refine z_iload_n hz dX10_out_18 1 rfl rfl ?_
      refine z_iload_n hz dX10_out_19 2 rfl rfl ?_
      refine z_iload_n hz dX10_out_20 3 rfl rfl ?_
      refine z_callE (bs2 := fun f3 => [zO (ad 99) 10 (mFs ad iv), zI (G.2.2.1 0) (ad 0) 602 g, zI (G.2.2.1 0) (ad 4) 6 er, zI (G.2.2.1 0) (ad 12) 60 f3]) (st2 := [.int (outF g j gg (nI xx))]) hz hA (zk_V hz (rm := (zRm 4 0 0 150)) (As := [.int (nI j), .int gg, .int (nI xx)]) (rest := []) 3 q2240 q2242 qs58 q95 q2243 (by decide +kernel) ⟨Nat.le_of_ble_eq_true rfl, Nat.le_of_ble_eq_true rfl⟩ ⟨Nat.le_of_ble_eq_true rfl, Nat.le_of_ble_eq_true rfl⟩ (zRecv (q := (RX10, TX10, 29)) hz (zAt.mt 0 0 rfl rfl) rfl) rfl rfl (Nat.le_of_ble_eq_true rfl) dX10_out_21) (mM_outOf ad iv g pl j xx gg (by omega) k0 hn0 hk0 nw (by omega) h12 hw htx) [0, 1, 3] rfl (by decide) (fun _ => rfl) rfl (fun f3 => ?_)
      refine z_goto hz 33 dX10_out_24 (by decide) ?_
      exact z_iret hQ hz hr hlk dX10_out_33 (by
        have e9 : sOut g (nI j) gg (nI xx) = (0, outF g j gg (nI xx), g) := by simp [sOut, inR, nI_clamp, c1, c2, t_j]
        rw [e9]; exact ⟨congrArg (fun z => some (Value.int z)) rOf_0.symm, _, rfl⟩)
set_option maxHeartbeats 400000 in
theorem mM_best {G : zG} (ad : Nat → Nat) (iv g er : Nat → Int32) (pl : Nat → Int32) (gg : Int32) (x : Int32) (k0 : Nat) (hn0 : g 0 = nI k0) (hk0 : k0 ≤ 2399) (nw : Nat) (hnw : g 3 = nI nw) (h12 : nw ≤ 12) (hw : wayOk g nw) (htx : ∀ u, u < 4 → txOk g u) : zMet G yX10_best (ws_ yX10_best cX10_best 7 (some .int)) (zRm 5 0 0 190) [.ref (ad 99), .int gg, .int x] [zO (ad 99) 10 (mFs ad iv), zI (G.2.2.1 0) (ad 0) 602 g, zI (G.2.2.1 0) (ad 4) 6 er, zI (G.2.2.1 0) (ad 12) 60 pl] (fun v9 b9 => v9 = some (.int (rOf (sBest g gg x))) ∧ ∃ pl9 : Nat → Int32, b9 = [zO (ad 99) 10 (mFs ad iv), zI (G.2.2.1 0) (ad 0) 602 ((sBest g gg x).2.2), zI (G.2.2.1 0) (ad 4) 6 (eOf er (sBest g gg x)), zI (G.2.2.1 0) (ad 12) 60 pl9]) := by
  refine zMet.of (by decide +kernel) (Nat.le_of_ble_eq_true rfl) ?_
  intro p e s m args below meth c A hz hA hr hlk hnm9 Q hQ
  refine z_lv (lv' := [(0, .ref (ad 99)), (1, .int gg), (2, .int x)]) [0, 1, 2] rfl ?_
  have tnw : tN (nI nw) = nw := nI_clamp (by omega)
  refine z_iload_n hz dX10_best_0 1 rfl rfl ?_
  refine z_iload_n hz dX10_best_1 2 rfl rfl ?_
  refine z_callRD (st2 := [.int (zB (areOutP gg x))]) hz zKp.mt (zk_S hz (rm := (zRm 1 0 0 30)) (As := [.int gg, .int x]) (rest := []) 2 q2237 q2238 q95 q2239 (by decide +kernel) ⟨Nat.le_of_ble_eq_true rfl, Nat.le_of_ble_eq_true rfl⟩ ⟨Nat.le_of_ble_eq_true rfl, Nat.le_of_ble_eq_true rfl⟩ rfl rfl (Nat.le_of_ble_eq_true rfl) dX10_best_2) (mM_areOut gg x) (fun _ _ _ => zP0) rfl ?_
  refine z_ifB_ne hz 15 dX10_best_5 (by decide) (fun c1 => ?_) (fun c1 => ?_)
  · obtain ⟨xx, -, xx_hi, rfl⟩ := inR_nat 0 2400 kn_0 kn_2400 (by decide) (by decide) c1.2
    have t_xx : tN (nI xx) = xx := nI_clamp (by omega)
    refine z_ldc hz q2133 dX10_best_15 ?_
    refine z_istore_n (lv' := [(0, .ref (ad 99)), (1, .int gg), (2, .int (nI xx)), (3, .int (-1000002))]) hz [1, 2, 3, 0] dX10_best_17 rfl (by decide) rfl ?_
    refine z_iconst hz (-1) dX10_best_18 ki_m1 ?_
    refine z_istore (lv' := [(0, .ref (ad 99)), (1, .int gg), (2, .int (nI xx)), (3, .int (-1000002)), (4, .int (-1))]) hz [1, 2, 3, 4, 0] dX10_best_19 (by decide) rfl ?_
    refine z_iconst hz 0 dX10_best_21 ki_0 ?_
    refine z_istore (lv' := [(0, .ref (ad 99)), (1, .int gg), (2, .int (nI xx)), (3, .int (-1000002)), (4, .int (-1)), (5, .int 0)]) hz [1, 2, 3, 4, 5, 0] dX10_best_22 (by decide) rfl ?_
    have lp_24 : ∀ (n9 : Nat) (k : Nat) (bs : Int32) (mx : Int32) (pl2 : Nat → Int32), k ≤ nw → bs = (bestF g gg (nI xx) k).1 → mx = (bestF g gg (nI xx) k).2 → nw - k < n9 → zW p G.1 e (zRm 5 0 0 190) s m args below meth c 7 Q 0 0 (zΦ G A s [zO (ad 99) 10 (mFs ad iv), zI (G.2.2.1 0) (ad 0) 602 g, zI (G.2.2.1 0) (ad 4) 6 er, zI (G.2.2.1 0) (ad 12) 60 pl2]) 24 [(0, .ref (ad 99)), (1, .int gg), (2, .int (nI xx)), (3, .int bs), (4, .int mx), (5, .int (nI k))] [] := by
      intro n9
      induction n9 with
      | zero => intro _ _ _ _ _ _ _ hm; exact absurd hm (Nat.not_lt_zero _)
      | succ n9 ih_24 =>
        intro k bs mx pl2 hk hbs hmx hm_24
        refine z_iload hz dX10_best_24 5 rfl ?_
        refine z_aload_n hz dX10_best_26 0 rfl rfl ?_
        refine z_get (C := RX10) (T := TX10) (N := 29) hz in_X10 (zAt.mt 0 0 rfl rfl) rfl 0 (by decide) q1929 (fun _ h9 => h9) rfl dX10_best_27 ?_
        refine z_iconst hz 3 dX10_best_30 ki_3 ?_
        refine z_iald hz (zAt.mt 1 0 rfl rfl) kn_3 (by decide) (by decide) dX10_best_31 ?_
        refine z_top hnw ?_
        refine z_icmpN_ge hz rfl rfl (by omega) (by omega) 65 dX10_best_32 (by decide) (fun c2 => ?_) (fun c2 => ?_)
        · refine z_iload_n hz dX10_best_65 3 rfl rfl ?_
          refine z_if_ge hz 78 dX10_best_66 (by decide) (fun c3 => ?_) (fun c3 => ?_)
          · refine z_iload_n hz dX10_best_78 3 rfl rfl ?_
            exact z_iret hQ hz hr hlk dX10_best_79 (by
              have e9 : sBest g gg (nI xx) = (0, bs, g) := by simp only [sBest]; rw [if_pos c1, hnw, tnw, show nw = k by omega, ← hbs, if_neg (Int32.not_lt.mpr c3)]
              rw [e9]; exact ⟨congrArg (fun z => some (Value.int z)) rOf_0.symm, _, rfl⟩)
          · refine z_aload_n hz dX10_best_69 0 rfl rfl ?_
            refine z_ldc hz q2133 dX10_best_70 ?_
            refine z_callD (bs2 := [zO (ad 99) 10 (mFs ad iv), zI (G.2.2.1 0) (ad 0) 602 g, zI (G.2.2.1 0) (ad 4) 6 (upd er 2 (er 2 + 1)), zI (G.2.2.1 0) (ad 12) 60 pl2]) (st2 := [.int (-1000002)]) hz hA (zk_V hz (rm := (zRm 0 0 0 0)) (As := [.int (-1000002)]) (rest := []) 1 q2032 q2034 qs35 q95 q2035 (by decide +kernel) ⟨Nat.le_of_ble_eq_true rfl, Nat.le_of_ble_eq_true rfl⟩ ⟨Nat.le_of_ble_eq_true rfl, Nat.le_of_ble_eq_true rfl⟩ (zRecv (q := (RX10, TX10, 29)) hz (zAt.mt 0 0 rfl rfl) rfl) rfl rfl (Nat.le_of_ble_eq_true rfl) dX10_best_72) (mM_finding ad iv er (-1000002) 2 (by decide) (by decide)) [0, 2] rfl (by decide) rfl rfl ?_
            refine z_goto hz 79 dX10_best_75 (by decide) ?_
            exact z_iret hQ hz hr hlk dX10_best_79 (by
              have e9 : sBest g gg (nI xx) = (2, 0, g) := by simp only [sBest]; rw [if_pos c1, hnw, tnw, show nw = k by omega, ← hbs, if_pos (Int32.not_le.mp c3)]
              rw [e9]; exact ⟨congrArg (fun z => some (Value.int z)) rE2, _, rfl⟩)
        · refine z_aload_n hz dX10_best_35 0 rfl rfl ?_
          refine z_iload hz dX10_best_36 5 rfl ?_
          refine z_iload_n hz dX10_best_38 1 rfl rfl ?_
          refine z_iload_n hz dX10_best_39 2 rfl rfl ?_
          refine z_callE (bs2 := fun f4 => [zO (ad 99) 10 (mFs ad iv), zI (G.2.2.1 0) (ad 0) 602 g, zI (G.2.2.1 0) (ad 4) 6 er, zI (G.2.2.1 0) (ad 12) 60 f4]) (st2 := [.int (outF g k gg (nI xx))]) hz hA (zk_V hz (rm := (zRm 4 0 0 150)) (As := [.int (nI k), .int gg, .int (nI xx)]) (rest := []) 3 q2240 q2242 qs58 q95 q2243 (by decide +kernel) ⟨Nat.le_of_ble_eq_true rfl, Nat.le_of_ble_eq_true rfl⟩ ⟨Nat.le_of_ble_eq_true rfl, Nat.le_of_ble_eq_true rfl⟩ (zRecv (q := (RX10, TX10, 29)) hz (zAt.mt 0 0 rfl rfl) rfl) rfl rfl (Nat.le_of_ble_eq_true rfl) dX10_best_40) (mM_outOf ad iv g pl2 k xx gg (by omega) k0 hn0 hk0 nw (by omega) h12 hw htx) [0, 1, 3] rfl (by decide) (fun _ => rfl) rfl (fun f4 => ?_)
          refine z_istore (lv' := [(0, .ref (ad 99)), (1, .int gg), (2, .int (nI xx)), (3, .int bs), (4, .int mx), (5, .int (nI k)), (6, .int (outF g k gg (nI xx)))]) hz [1, 2, 3, 4, 5, 6, 0] dX10_best_43 (by decide) rfl ?_
          refine z_iload hz dX10_best_45 6 rfl ?_
          refine z_iload hz dX10_best_47 4 rfl ?_
          refine z_icmp_le hz 59 dX10_best_49 (by decide) (fun c5 => ?_) (fun c5 => ?_)
          · refine z_iinc (lv' := [(0, .ref (ad 99)), (1, .int gg), (2, .int (nI xx)), (3, .int bs), (4, .int mx), (5, .int (nI (k + 1))), (6, .int (outF g k gg (nI xx)))]) hz (nI (k + 1)) 5 [1, 2, 3, 4, 5, 0, 6] dX10_best_59 rfl (nI_1 _) (by decide) rfl ?_
            refine z_goto hz 24 dX10_best_62 (by decide) ?_
            refine z_lv [0, 1, 2, 3, 4, 5] rfl ?_
            exact ih_24 (k + 1) bs mx f4 (by omega) (by simp only [bestF]; rw [← hmx, if_neg (Int32.not_lt.mpr c5), ← hbs]) (by simp only [bestF]; rw [← hmx, if_neg (Int32.not_lt.mpr c5), ← hmx]) (by omega)
          · refine z_iload hz dX10_best_52 5 rfl ?_
            refine z_istore_n (lv' := [(0, .ref (ad 99)), (1, .int gg), (2, .int (nI xx)), (3, .int (nI k)), (4, .int mx), (5, .int (nI k)), (6, .int (outF g k gg (nI xx)))]) hz [1, 2, 3, 0, 4, 5, 6] dX10_best_54 rfl (by decide) rfl ?_
            refine z_iload hz dX10_best_55 6 rfl ?_
            refine z_istore (lv' := [(0, .ref (ad 99)), (1, .int gg), (2, .int (nI xx)), (3, .int (nI k)), (4, .int (outF g k gg (nI xx))), (5, .int (nI k)), (6, .int (outF g k gg (nI xx)))]) hz [1, 2, 3, 4, 0, 5, 6] dX10_best_57 (by decide) rfl ?_
            refine z_iinc (lv' := [(0, .ref (ad 99)), (1, .int gg), (2, .int (nI xx)), (3, .int (nI k)), (4, .int (outF g k gg (nI xx))), (5, .int (nI (k + 1))), (6, .int (outF g k gg (nI xx)))]) hz (nI (k + 1)) 5 [1, 2, 3, 4, 5, 0, 6] dX10_best_59 rfl (nI_1 _) (by decide) rfl ?_
            refine z_goto hz 24 dX10_best_62 (by decide) ?_
            refine z_lv [0, 1, 2, 3, 4, 5] rfl ?_
            exact ih_24 (k + 1) (nI k) (outF g k gg (nI xx)) f4 (by omega) (by simp only [bestF]; rw [← hmx, if_pos (Int32.not_le.mp c5)]) (by simp only [bestF]; rw [← hmx, if_pos (Int32.not_le.mp c5)]) (by omega)
    exact lp_24 ((nw - 0) + 1) 0 (-1000002) (-1) pl (Nat.zero_le _) rfl rfl (Nat.lt_succ_self _)
  · refine z_aload_n hz dX10_best_8 0 rfl rfl ?_
    refine z_ldc hz q2031 dX10_best_9 ?_
    refine z_callD (bs2 := [zO (ad 99) 10 (mFs ad iv), zI (G.2.2.1 0) (ad 0) 602 g, zI (G.2.2.1 0) (ad 4) 6 (upd er 1 (er 1 + 1)), zI (G.2.2.1 0) (ad 12) 60 pl]) (st2 := [.int (-1000001)]) hz hA (zk_V hz (rm := (zRm 0 0 0 0)) (As := [.int (-1000001)]) (rest := []) 1 q2032 q2034 qs35 q95 q2035 (by decide +kernel) ⟨Nat.le_of_ble_eq_true rfl, Nat.le_of_ble_eq_true rfl⟩ ⟨Nat.le_of_ble_eq_true rfl, Nat.le_of_ble_eq_true rfl⟩ (zRecv (q := (RX10, TX10, 29)) hz (zAt.mt 0 0 rfl rfl) rfl) rfl rfl (Nat.le_of_ble_eq_true rfl) dX10_best_11) (mM_finding ad iv er (-1000001) 1 (by decide) (by decide)) [0, 2] rfl (by decide) rfl rfl ?_
    exact z_iret hQ hz hr hlk dX10_best_14 (by
      have e9 : sBest g gg x = (1, 0, g) := by simp [sBest, inR, nI_clamp, c1]
      rw [e9]; exact ⟨congrArg (fun z => some (Value.int z)) rE1, _, rfl⟩)
