set_option maxRecDepth 100000
set_option maxHeartbeats 400000 in
theorem mM_minute {G : zG} (ad : Nat → Nat) (iv g er : Nat → Int32) (pl : Nat → Int32) (nn : Int32) (hg : gOk g) : zMet G yX10_minute (ws_ yX10_minute cX10_minute 3 (some .int)) (zRm 4 0 0 150) [.ref (ad 99), .int nn] [zO (ad 99) 10 (mFs ad iv), zI (G.2.2.1 0) (ad 0) 602 g, zI (G.2.2.1 0) (ad 4) 6 er, zI (G.2.2.1 0) (ad 12) 60 pl] (fun v9 b9 => v9 = some (.int (rOf (sMinute g nn))) ∧ ∃ pl9 : Nat → Int32, b9 = [zO (ad 99) 10 (mFs ad iv), zI (G.2.2.1 0) (ad 0) 602 ((sMinute g nn).2.2), zI (G.2.2.1 0) (ad 4) 6 (eOf er (sMinute g nn)), zI (G.2.2.1 0) (ad 12) 60 pl9]) := by
  refine zMet.of (by decide +kernel) (Nat.le_of_ble_eq_true rfl) ?_
  intro p e s m args below meth c A hz hA hr hlk hnm9 Q hQ
  refine z_lv (lv' := [(0, .ref (ad 99)), (1, .int nn)]) [0, 1] rfl ?_
  have hok := hg
  obtain ⟨⟨k0, hk0, hn0⟩, ⟨nm, h16, hnm⟩, ⟨nv, h12, hnv, hv⟩, htx⟩ := hg
  have tk0 : tN (nI k0) = k0 := nI_clamp (by omega)
  refine z_iload_n hz dX10_minute_0 1 rfl rfl ?_
  refine z_iconst hz 1 dX10_minute_1 ki_1 ?_
  refine z_sipush hz 600 dX10_minute_2 ks_600 ?_
  refine z_callRD (st2 := [.int (zB (inR nn 1 600))]) hz zKp.mt (zk_S hz (rm := (zRm 0 0 0 0)) (As := [.int nn, .int 1, .int 600]) (rest := []) 3 q2023 q2024 q95 q2025 (by decide +kernel) ⟨Nat.le_of_ble_eq_true rfl, Nat.le_of_ble_eq_true rfl⟩ ⟨Nat.le_of_ble_eq_true rfl, Nat.le_of_ble_eq_true rfl⟩ rfl rfl (Nat.le_of_ble_eq_true rfl) dX10_minute_5) (mM_within nn 1 600) (fun _ _ _ => zP0) rfl ?_
  refine z_ifB_ne hz 18 dX10_minute_8 (by decide) (fun c1 => ?_) (fun c1 => ?_)
  · obtain ⟨j, j_lo, j_hi, rfl⟩ := inR_nat 1 600 kn_1 kn_600 (by decide) (by decide) c1
    have t_j : tN (nI j) = j := nI_clamp (by omega)
    refine z_aload_n hz dX10_minute_18 0 rfl rfl ?_
    refine z_get (C := RX10) (T := TX10) (N := 29) hz in_X10 (zAt.mt 0 0 rfl rfl) rfl 0 (by decide) q1929 (fun _ h9 => h9) rfl dX10_minute_19 ?_
    refine z_iconst hz 0 dX10_minute_22 ki_0 ?_
    refine z_iald hz (zAt.mt 1 0 rfl rfl) kn_0 (by decide) (by decide) dX10_minute_23 ?_
    refine z_top hn0 ?_
    refine z_iload_n hz dX10_minute_24 1 rfl rfl ?_
    refine z_iaddN hz rfl rfl dX10_minute_25 ?_
    refine z_sipush hz 2399 dX10_minute_26 ks_2399 ?_
    refine z_icmpN_le hz rfl kn_2399 (by omega) (by decide) 39 dX10_minute_29 (by decide) (fun c2 => ?_) (fun c2 => ?_)
    · refine z_iconst hz 0 dX10_minute_39 ki_0 ?_
      refine z_istore_n (lv' := [(0, .ref (ad 99)), (1, .int (nI j)), (2, .int 0)]) hz [1, 2, 0] dX10_minute_40 rfl (by decide) rfl ?_
      have lp_41 : ∀ (n9 : Nat) (k : Nat) (h : Nat → Int32) (pl2 : Nat → Int32), k ≤ j → h = goF g k → j - k < n9 → zW p G.1 e (zRm 4 0 0 150) s m args below meth c 3 Q 0 0 (zΦ G A s [zO (ad 99) 10 (mFs ad iv), zI (G.2.2.1 0) (ad 0) 602 h, zI (G.2.2.1 0) (ad 4) 6 er, zI (G.2.2.1 0) (ad 12) 60 pl2]) 41 [(0, .ref (ad 99)), (1, .int (nI j)), (2, .int (nI k))] [] := by
        intro n9
        induction n9 with
        | zero => intro _ _ _ _ _ hm; exact absurd hm (Nat.not_lt_zero _)
        | succ n9 ih_41 =>
          intro k h pl2 hk hh hm_41
          obtain ⟨hn1, hn2, hnq, hnx⟩ := goOk hok hnm hnv hv k
          rw [← hh] at hn1 hn2 hnq hnx
          refine z_iload_n hz dX10_minute_41 2 rfl rfl ?_
          refine z_iload_n hz dX10_minute_42 1 rfl rfl ?_
          refine z_icmpN_ge hz rfl rfl (by omega) (by omega) 60 dX10_minute_43 (by decide) (fun c3 => ?_) (fun c3 => ?_)
          · obtain rfl : j = k := by omega
            subst hh
            refine z_aload_n hz dX10_minute_60 0 rfl rfl ?_
            refine z_get (C := RX10) (T := TX10) (N := 29) hz in_X10 (zAt.mt 0 0 rfl rfl) rfl 0 (by decide) q1929 (fun _ h9 => h9) rfl dX10_minute_61 ?_
            refine z_iconst hz 0 dX10_minute_64 ki_0 ?_
            refine z_iald hz (zAt.mt 1 0 rfl rfl) kn_0 (by decide) (by decide) dX10_minute_65 ?_
            exact z_iret hQ hz hr hlk dX10_minute_66 (by
              have e9 : sMinute g (nI j) = (0, (goF g j) 0, (goF g j)) := by simp [sMinute, inR, nI_clamp, c1, c2, c3, t_j, hn0, hn0, tk0]
              rw [e9]; exact ⟨rfl, _, rfl⟩)
          · refine z_aload_n hz dX10_minute_46 0 rfl rfl ?_
            refine z_callE (bs2 := fun f4 => [zO (ad 99) 10 (mFs ad iv), zI (G.2.2.1 0) (ad 0) 602 (breatheF h), zI (G.2.2.1 0) (ad 4) 6 er, zI (G.2.2.1 0) (ad 12) 60 f4]) (st2 := []) hz hA (zk_V hz (rm := (zRm 3 0 0 110)) (As := []) (rest := []) 0 q2094 q2096 qs40 q95 q2097 (by decide +kernel) ⟨Nat.le_of_ble_eq_true rfl, Nat.le_of_ble_eq_true rfl⟩ ⟨Nat.le_of_ble_eq_true rfl, Nat.le_of_ble_eq_true rfl⟩ (zRecv (q := (RX10, TX10, 29)) hz (zAt.mt 0 0 rfl rfl) rfl) rfl rfl (Nat.le_of_ble_eq_true rfl) dX10_minute_47) (mM_air ad iv h pl2 nm hn1 h16 (hnx 0 (by decide))) [0, 1, 3] rfl (by decide) (fun _ => rfl) rfl (fun f4 => ?_)
            refine z_aload_n hz dX10_minute_50 0 rfl rfl ?_
            refine z_callD (bs2 := [zO (ad 99) 10 (mFs ad iv), zI (G.2.2.1 0) (ad 0) 602 (restF (breatheF h)), zI (G.2.2.1 0) (ad 4) 6 er, zI (G.2.2.1 0) (ad 12) 60 f4]) (st2 := []) hz hA (zk_V hz (rm := (zRm 3 0 0 90)) (As := []) (rest := []) 0 q2118 q2120 qs44 q95 q2121 (by decide +kernel) ⟨Nat.le_of_ble_eq_true rfl, Nat.le_of_ble_eq_true rfl⟩ ⟨Nat.le_of_ble_eq_true rfl, Nat.le_of_ble_eq_true rfl⟩ (zRecv (q := (RX10, TX10, 29)) hz (zAt.mt 0 0 rfl rfl) rfl) rfl rfl (Nat.le_of_ble_eq_true rfl) dX10_minute_51) (mM_rest ad iv (breatheF h) nm (by rw [breatheF_o (by omega)]; exact hn1) h16 nv (by rw [breatheF_o (by omega)]; exact hn2) h12 (fun i hi => by rw [breatheF_o (by omega)]; exact hnq i hi)) [0, 1] rfl (by decide) rfl rfl ?_
            refine z_iinc (lv' := [(0, .ref (ad 99)), (1, .int (nI j)), (2, .int (nI (k + 1)))]) hz (nI (k + 1)) 2 [1, 2, 0] dX10_minute_54 rfl (nI_1 _) (by decide) rfl ?_
            refine z_goto hz 41 dX10_minute_57 (by decide) ?_
            exact ih_41 (k + 1) (restF (breatheF h)) f4 (by omega) (by rw [hh]; rfl) (by omega)
      exact lp_41 ((j - 0) + 1) 0 g pl (Nat.zero_le _) rfl (Nat.lt_succ_self _)
    · refine z_aload_n hz dX10_minute_32 0 rfl rfl ?_
      refine z_ldc hz q2061 dX10_minute_33 ?_
      refine z_callD (bs2 := [zO (ad 99) 10 (mFs ad iv), zI (G.2.2.1 0) (ad 0) 602 g, zI (G.2.2.1 0) (ad 4) 6 (upd er 3 (er 3 + 1)), zI (G.2.2.1 0) (ad 12) 60 pl]) (st2 := [.int (-1000003)]) hz hA (zk_V hz (rm := (zRm 0 0 0 0)) (As := [.int (-1000003)]) (rest := []) 1 q2032 q2034 qs35 q95 q2035 (by decide +kernel) ⟨Nat.le_of_ble_eq_true rfl, Nat.le_of_ble_eq_true rfl⟩ ⟨Nat.le_of_ble_eq_true rfl, Nat.le_of_ble_eq_true rfl⟩ (zRecv (q := (RX10, TX10, 29)) hz (zAt.mt 0 0 rfl rfl) rfl) rfl rfl (Nat.le_of_ble_eq_true rfl) dX10_minute_35) (mM_finding ad iv er (-1000003) 3 (by decide) (by decide)) [0, 2] rfl (by decide) rfl rfl ?_
      exact z_iret hQ hz hr hlk dX10_minute_38 (by
        have e9 : sMinute g (nI j) = (3, 0, g) := by simp [sMinute, inR, nI_clamp, c1, c2, t_j, hn0, tk0]
        rw [e9]; exact ⟨congrArg (fun z => some (Value.int z)) rE3, _, rfl⟩)
  · refine z_aload_n hz dX10_minute_11 0 rfl rfl ?_
    refine z_ldc hz q2031 dX10_minute_12 ?_
    refine z_callD (bs2 := [zO (ad 99) 10 (mFs ad iv), zI (G.2.2.1 0) (ad 0) 602 g, zI (G.2.2.1 0) (ad 4) 6 (upd er 1 (er 1 + 1)), zI (G.2.2.1 0) (ad 12) 60 pl]) (st2 := [.int (-1000001)]) hz hA (zk_V hz (rm := (zRm 0 0 0 0)) (As := [.int (-1000001)]) (rest := []) 1 q2032 q2034 qs35 q95 q2035 (by decide +kernel) ⟨Nat.le_of_ble_eq_true rfl, Nat.le_of_ble_eq_true rfl⟩ ⟨Nat.le_of_ble_eq_true rfl, Nat.le_of_ble_eq_true rfl⟩ (zRecv (q := (RX10, TX10, 29)) hz (zAt.mt 0 0 rfl rfl) rfl) rfl rfl (Nat.le_of_ble_eq_true rfl) dX10_minute_14) (mM_finding ad iv er (-1000001) 1 (by decide) (by decide)) [0, 2] rfl (by decide) rfl rfl ?_
    exact z_iret hQ hz hr hlk dX10_minute_17 (by
      have e9 : sMinute g nn = (1, 0, g) := by simp [sMinute, inR, nI_clamp, c1, hn0, tk0]
      rw [e9]; exact ⟨congrArg (fun z => some (Value.int z)) rE1, _, rfl⟩)
set_option maxHeartbeats 400000 in
theorem mM_copy {G : zG} (x y : Nat) (f h0 : Nat → Int32) : zMet G yX10_copy (ws_ yX10_copy cX10_copy 3 none) (zRm 0 0 0 0) [.ref x, .ref y] [zI (G.2.2.1 0) x 602 f, zI (G.2.2.1 0) y 602 h0] (fun v9 b9 => v9 = none ∧ b9 = [zI (G.2.2.1 0) x 602 f, zI (G.2.2.1 0) y 602 f]) := by
  refine zMet.of (by decide +kernel) (Nat.le_of_ble_eq_true rfl) ?_
  intro p e s m args below meth c A hz hA hr hlk hnm9 Q hQ
  refine z_lv (lv' := [(0, .ref x), (1, .ref y)]) [0, 1] rfl ?_
  refine z_iconst hz 0 dX10_copy_0 ki_0 ?_
  refine z_istore_n (lv' := [(0, .ref x), (1, .ref y), (2, .int 0)]) hz [1, 2, 0] dX10_copy_1 rfl (by decide) rfl ?_
  have lp_2 : ∀ (n9 : Nat) (k : Nat) (h : Nat → Int32), k ≤ 602 → (∀ j9, j9 < k → h j9 = f j9) → 602 - k < n9 → zW p G.1 e (zRm 0 0 0 0) s m args below meth c 3 Q 0 0 (zΦ G A s [zI (G.2.2.1 0) x 602 f, zI (G.2.2.1 0) y 602 h]) 2 [(0, .ref x), (1, .ref y), (2, .int (nI k))] [] := by
    intro n9
    induction n9 with
    | zero => intro _ _ _ _ hm; exact absurd hm (Nat.not_lt_zero _)
    | succ n9 ih_2 =>
      intro k h hk hh hm_2
      refine z_iload_n hz dX10_copy_2 2 rfl rfl ?_
      refine z_sipush hz 602 dX10_copy_3 ks_602 ?_
      refine z_icmpN_ge hz rfl kn_602 (by omega) (by decide) 21 dX10_copy_6 (by decide) (fun c1 => ?_) (fun c1 => ?_)
      · refine z_arr (g := f) 1 rfl (fun j9 hj => hh j9 (by omega)) ?_
        exact z_vret hQ hz hr hlk dX10_copy_21 ⟨rfl, rfl⟩
      · refine z_aload_n hz dX10_copy_9 1 rfl rfl ?_
        refine z_iload_n hz dX10_copy_10 2 rfl rfl ?_
        refine z_aload_n hz dX10_copy_11 0 rfl rfl ?_
        refine z_iload_n hz dX10_copy_12 2 rfl rfl ?_
        refine z_iald hz (zAt.mt 0 0 rfl rfl) rfl (by omega) (by decide) dX10_copy_13 ?_
        refine z_iast hz 1 0 rfl rfl rfl (by omega) (by decide) dX10_copy_14 ?_
        refine z_bs (bs2 := [zI (G.2.2.1 0) x 602 f, zI (G.2.2.1 0) y 602 (upd h k (f k))]) rfl ?_
        refine z_iinc (lv' := [(0, .ref x), (1, .ref y), (2, .int (nI (k + 1)))]) hz (nI (k + 1)) 2 [1, 2, 0] dX10_copy_15 rfl (nI_1 _) (by decide) rfl ?_
        refine z_goto hz 2 dX10_copy_18 (by decide) ?_
        exact ih_2 (k + 1) (upd h k (f k)) (by omega) (upd_all hh) (by omega)
  exact lp_2 ((602 - 0) + 1) 0 h0 (Nat.zero_le _) (fun j9 hj => absurd hj (Nat.not_lt_zero _)) (Nat.lt_succ_self _)
set_option maxHeartbeats 400000 in
theorem mM_isStill {G : zG} (ad : Nat → Nat) (iv g : Nat → Int32) (nm : Nat) (hnm : g 1 = nI nm) (h16 : nm ≤ 16) : zRd G yX10_isStill (ws_ yX10_isStill cX10_isStill 4 (some .boolean)) (zRm 2 0 0 60) [.ref (ad 99)] [(ad 99, .inr (10, mFs ad iv)), (ad 0, .inl (G.2.2.1 0, 602, .inl g))] (fun v9 => v9 = some (.int (stillF g))) := by
  refine zRd.of (by decide +kernel) (Nat.le_of_ble_eq_true rfl) ?_
  intro p e s m args below meth c hz hP hr hlk Q hQ
  refine z_lv (lv' := [(0, .ref (ad 99))]) [0] rfl ?_
  have tnm : tN (nI nm) = nm := nI_clamp (by omega)
  refine z_iconst hz 1 dX10_isStill_0 ki_1 ?_
  refine z_istore_n (lv' := [(0, .ref (ad 99)), (1, .int 1)]) hz [1, 0] dX10_isStill_1 rfl (by decide) rfl ?_
  refine z_iconst hz 0 dX10_isStill_2 ki_0 ?_
  refine z_istore_n (lv' := [(0, .ref (ad 99)), (1, .int 1), (2, .int 0)]) hz [1, 2, 0] dX10_isStill_3 rfl (by decide) rfl ?_
  have lp_4 : ∀ (n9 : Nat) (k : Nat) (s1 : Int32), k ≤ nm → s1 = stillM g k → nm - k < n9 → zW p G.1 e (zRm 2 0 0 60) s m args below meth c 4 Q 0 0 (zΨ s) 4 [(0, .ref (ad 99)), (1, .int s1), (2, .int (nI k))] [] := by
    intro n9
    induction n9 with
    | zero => intro _ _ _ _ hm; exact absurd hm (Nat.not_lt_zero _)
    | succ n9 ih_4 =>
      intro k s1 hk hs hm_4
      refine z_iload_n hz dX10_isStill_4 2 rfl rfl ?_
      refine z_aload_n hz dX10_isStill_5 0 rfl rfl ?_
      refine z_get (C := RX10) (T := TX10) (N := 29) hz in_X10 (zAt.rd hP 0 rfl) rfl 0 (by decide) q1929 (fun _ h9 => h9) rfl dX10_isStill_6 ?_
      refine z_iconst hz 1 dX10_isStill_9 ki_1 ?_
      refine z_iald hz (zAt.rd hP 1 rfl) kn_1 (by decide) (by decide) dX10_isStill_10 ?_
      refine z_top hnm ?_
      refine z_icmpN_ge hz rfl rfl (by omega) (by omega) 42 dX10_isStill_11 (by decide) (fun c1 => ?_) (fun c1 => ?_)
      · refine z_iconst hz 0 dX10_isStill_42 ki_0 ?_
        refine z_istore_n (lv' := [(0, .ref (ad 99)), (1, .int s1), (2, .int 0)]) hz [1, 2, 0] dX10_isStill_43 rfl (by decide) rfl ?_
        have lp_44 : ∀ (n9 : Nat) (k2 : Nat) (s2 : Int32), k2 ≤ 7 → s2 = stillD g s1 k2 → 7 - k2 < n9 → zW p G.1 e (zRm 2 0 0 60) s m args below meth c 4 Q 0 0 (zΨ s) 44 [(0, .ref (ad 99)), (1, .int s2), (2, .int (nI k2))] [] := by
          intro n9
          induction n9 with
          | zero => intro _ _ _ _ hm; exact absurd hm (Nat.not_lt_zero _)
          | succ n9 ih_44 =>
            intro k2 s2 hk2 hs2 hm_44
            refine z_iload_n hz dX10_isStill_44 2 rfl rfl ?_
            refine z_bipush hz 7 dX10_isStill_45 kb_7 ?_
            refine z_icmpN_ge hz rfl kn_7 (by omega) (by decide) 109 dX10_isStill_47 (by decide) (fun c2 => ?_) (fun c2 => ?_)
            · refine z_iload_n hz dX10_isStill_109 1 rfl rfl ?_
              exact zr_zret hQ hz hr hlk (by rw [hs2]; exact stillD_nar (by rw [hs]; exact stillM_01 _) _) dX10_isStill_110 (by rw [stillF, hnm, tnm, hs2, show k2 = 7 by omega, hs, show nm = k by omega])
            · refine z_aload_n hz dX10_isStill_50 0 rfl rfl ?_
              refine z_get (C := RX10) (T := TX10) (N := 29) hz in_X10 (zAt.rd hP 0 rfl) rfl 0 (by decide) q1929 (fun _ h9 => h9) rfl dX10_isStill_51 ?_
              refine z_bipush hz 28 dX10_isStill_54 kb_28 ?_
              refine z_iload_n hz dX10_isStill_56 2 rfl rfl ?_
              refine z_iaddN hz kn_28 rfl dX10_isStill_57 ?_
              refine z_iald hz (zAt.rd hP 1 rfl) rfl (by omega) (by decide) dX10_isStill_58 ?_
              refine z_aload_n hz dX10_isStill_59 0 rfl rfl ?_
              refine z_get (C := RX10) (T := TX10) (N := 29) hz in_X10 (zAt.rd hP 0 rfl) rfl 0 (by decide) q1929 (fun _ h9 => h9) rfl dX10_isStill_60 ?_
              refine z_bipush hz 28 dX10_isStill_63 kb_28 ?_
              refine z_iload_n hz dX10_isStill_65 2 rfl rfl ?_
              refine z_iaddN hz kn_28 rfl dX10_isStill_66 ?_
              refine z_iconst hz 1 dX10_isStill_67 ki_1 ?_
              refine z_iaddN hz rfl kn_1 dX10_isStill_68 ?_
              refine z_iald hz (zAt.rd hP 1 rfl) rfl (by omega) (by decide) dX10_isStill_69 ?_
              refine z_isub hz dX10_isStill_70 ?_
              refine z_istore_n (lv' := [(0, .ref (ad 99)), (1, .int s2), (2, .int (nI k2)), (3, .int ((g (28 + k2)) - (g ((28 + k2) + 1))))]) hz [1, 2, 3, 0] dX10_isStill_71 rfl (by decide) rfl ?_
              refine z_iload_n hz dX10_isStill_72 1 rfl rfl ?_
              refine z_if_eq hz 101 dX10_isStill_73 (by decide) (fun c3 => ?_) (fun c3 => ?_)
              · refine z_iconst hz 0 dX10_isStill_101 ki_0 ?_
                refine z_istore_n (lv' := [(0, .ref (ad 99)), (1, .int 0), (2, .int (nI k2)), (3, .int ((g (28 + k2)) - (g ((28 + k2) + 1))))]) hz [1, 0, 2, 3] dX10_isStill_102 rfl (by decide) rfl ?_
                refine z_iinc (lv' := [(0, .ref (ad 99)), (1, .int 0), (2, .int (nI (k2 + 1))), (3, .int ((g (28 + k2)) - (g ((28 + k2) + 1))))]) hz (nI (k2 + 1)) 2 [1, 2, 0, 3] dX10_isStill_103 rfl (nI_1 _) (by decide) rfl ?_
                refine z_goto hz 44 dX10_isStill_106 (by decide) ?_
                refine z_lv [0, 1, 2] rfl ?_
                exact ih_44 (k2 + 1) 0 (by omega) (by simp only [stillD]; rw [← hs2, if_neg (fun h9 => h9.1 c3)]) (by omega)
              · refine z_aload_n hz dX10_isStill_76 0 rfl rfl ?_
                refine z_get (C := RX10) (T := TX10) (N := 29) hz in_X10 (zAt.rd hP 0 rfl) rfl 0 (by decide) q1929 (fun _ h9 => h9) rfl dX10_isStill_77 ?_
                refine z_bipush hz 13 dX10_isStill_80 kb_13 ?_
                refine z_iload_n hz dX10_isStill_82 2 rfl rfl ?_
                refine z_iaddN hz kn_13 rfl dX10_isStill_83 ?_
                refine z_iald hz (zAt.rd hP 1 rfl) rfl (by omega) (by decide) dX10_isStill_84 ?_
                refine z_if_eq hz 97 dX10_isStill_85 (by decide) (fun c4 => ?_) (fun c4 => ?_)
                · refine z_iconst hz 1 dX10_isStill_97 ki_1 ?_
                  refine z_goto hz 102 dX10_isStill_98 (by decide) ?_
                  refine z_istore_n (lv' := [(0, .ref (ad 99)), (1, .int 1), (2, .int (nI k2)), (3, .int ((g (28 + k2)) - (g ((28 + k2) + 1))))]) hz [1, 0, 2, 3] dX10_isStill_102 rfl (by decide) rfl ?_
                  refine z_iinc (lv' := [(0, .ref (ad 99)), (1, .int 1), (2, .int (nI (k2 + 1))), (3, .int ((g (28 + k2)) - (g ((28 + k2) + 1))))]) hz (nI (k2 + 1)) 2 [1, 2, 0, 3] dX10_isStill_103 rfl (nI_1 _) (by decide) rfl ?_
                  refine z_goto hz 44 dX10_isStill_106 (by decide) ?_
                  refine z_lv [0, 1, 2] rfl ?_
                  exact ih_44 (k2 + 1) 1 (by omega) (by simp only [stillD]; rw [← hs2, if_pos ⟨c3, Or.inl c4⟩]) (by omega)
                · refine z_iload_n hz dX10_isStill_88 3 rfl rfl ?_
                  refine z_if_eq hz 97 dX10_isStill_89 (by decide) (fun c5 => ?_) (fun c5 => ?_)
                  · refine z_iconst hz 1 dX10_isStill_97 ki_1 ?_
                    refine z_goto hz 102 dX10_isStill_98 (by decide) ?_
                    refine z_istore_n (lv' := [(0, .ref (ad 99)), (1, .int 1), (2, .int (nI k2)), (3, .int ((g (28 + k2)) - (g ((28 + k2) + 1))))]) hz [1, 0, 2, 3] dX10_isStill_102 rfl (by decide) rfl ?_
                    refine z_iinc (lv' := [(0, .ref (ad 99)), (1, .int 1), (2, .int (nI (k2 + 1))), (3, .int ((g (28 + k2)) - (g ((28 + k2) + 1))))]) hz (nI (k2 + 1)) 2 [1, 2, 0, 3] dX10_isStill_103 rfl (nI_1 _) (by decide) rfl ?_
                    refine z_goto hz 44 dX10_isStill_106 (by decide) ?_
                    refine z_lv [0, 1, 2] rfl ?_
                    exact ih_44 (k2 + 1) 1 (by omega) (by simp only [stillD]; rw [← hs2, if_pos ⟨c3, Or.inr (Or.inl c5)⟩]) (by omega)
                  · refine z_iload_n hz dX10_isStill_92 3 rfl rfl ?_
                    refine z_iconst hz 1 dX10_isStill_93 ki_1 ?_
                    refine z_icmp_ne hz 101 dX10_isStill_94 (by decide) (fun c6 => ?_) (fun c6 => ?_)
                    · refine z_iconst hz 0 dX10_isStill_101 ki_0 ?_
                      refine z_istore_n (lv' := [(0, .ref (ad 99)), (1, .int 0), (2, .int (nI k2)), (3, .int ((g (28 + k2)) - (g ((28 + k2) + 1))))]) hz [1, 0, 2, 3] dX10_isStill_102 rfl (by decide) rfl ?_
                      refine z_iinc (lv' := [(0, .ref (ad 99)), (1, .int 0), (2, .int (nI (k2 + 1))), (3, .int ((g (28 + k2)) - (g ((28 + k2) + 1))))]) hz (nI (k2 + 1)) 2 [1, 2, 0, 3] dX10_isStill_103 rfl (nI_1 _) (by decide) rfl ?_
                      refine z_goto hz 44 dX10_isStill_106 (by decide) ?_
                      refine z_lv [0, 1, 2] rfl ?_
                      exact ih_44 (k2 + 1) 0 (by omega) (by simp only [stillD]; rw [← hs2, if_neg (fun h9 => h9.2.elim c4 (fun h9 => h9.elim c5 c6))]) (by omega)
                    · refine z_iconst hz 1 dX10_isStill_97 ki_1 ?_
                      refine z_goto hz 102 dX10_isStill_98 (by decide) ?_
                      refine z_istore_n (lv' := [(0, .ref (ad 99)), (1, .int 1), (2, .int (nI k2)), (3, .int ((g (28 + k2)) - (g ((28 + k2) + 1))))]) hz [1, 0, 2, 3] dX10_isStill_102 rfl (by decide) rfl ?_
                      refine z_iinc (lv' := [(0, .ref (ad 99)), (1, .int 1), (2, .int (nI (k2 + 1))), (3, .int ((g (28 + k2)) - (g ((28 + k2) + 1))))]) hz (nI (k2 + 1)) 2 [1, 2, 0, 3] dX10_isStill_103 rfl (nI_1 _) (by decide) rfl ?_
                      refine z_goto hz 44 dX10_isStill_106 (by decide) ?_
                      refine z_lv [0, 1, 2] rfl ?_
                      exact ih_44 (k2 + 1) 1 (by omega) (by simp only [stillD]; rw [← hs2, if_pos ⟨c3, Or.inr (Or.inr c6)⟩]) (by omega)
        exact lp_44 ((7 - 0) + 1) 0 s1 (Nat.zero_le _) rfl (Nat.lt_succ_self _)
      · refine z_iload_n hz dX10_isStill_14 1 rfl rfl ?_
        refine z_if_eq hz 34 dX10_isStill_15 (by decide) (fun c7 => ?_) (fun c7 => ?_)
        · refine z_iconst hz 0 dX10_isStill_34 ki_0 ?_
          refine z_istore_n (lv' := [(0, .ref (ad 99)), (1, .int 0), (2, .int (nI k))]) hz [1, 0, 2] dX10_isStill_35 rfl (by decide) rfl ?_
          refine z_iinc (lv' := [(0, .ref (ad 99)), (1, .int 0), (2, .int (nI (k + 1)))]) hz (nI (k + 1)) 2 [1, 2, 0] dX10_isStill_36 rfl (nI_1 _) (by decide) rfl ?_
          refine z_goto hz 4 dX10_isStill_39 (by decide) ?_
          exact ih_4 (k + 1) 0 (by omega) (by simp only [stillM]; rw [← hs, if_neg (fun h9 => h9.1 c7)]) (by omega)
        · refine z_aload_n hz dX10_isStill_18 0 rfl rfl ?_
          refine z_iload_n hz dX10_isStill_19 2 rfl rfl ?_
          refine z_iconst hz 0 dX10_isStill_20 ki_0 ?_
          refine z_callRD (st2 := [.int (g (36 + 5 * k))]) hz zKp.rd (zk_V hz (rm := (zRm 0 0 0 0)) (As := [.int (nI k), .int 0]) (rest := []) 2 q2057 q2059 qs38 q95 q2060 (by decide +kernel) ⟨Nat.le_of_ble_eq_true rfl, Nat.le_of_ble_eq_true rfl⟩ ⟨Nat.le_of_ble_eq_true rfl, Nat.le_of_ble_eq_true rfl⟩ (zRecv (q := (RX10, TX10, 29)) hz (zAt.rd hP 0 rfl) rfl) rfl rfl (Nat.le_of_ble_eq_true rfl) dX10_isStill_21) (mM_man2 ad iv g k 0 (by omega)) (fun H9 L9 h9 => (zPc (zAt.rd hP 0 rfl) h9 (zPc (zAt.rd hP 1 rfl) h9 zP0))) rfl ?_
          refine z_callRD (st2 := [.int (zB (inR (g (36 + 5 * k)) 0 7))]) hz zKp.rd (zk_S hz (rm := (zRm 1 0 0 30)) (As := [.int (g (36 + 5 * k))]) (rest := []) 1 q2041 q2042 q95 q2043 (by decide +kernel) ⟨Nat.le_of_ble_eq_true rfl, Nat.le_of_ble_eq_true rfl⟩ ⟨Nat.le_of_ble_eq_true rfl, Nat.le_of_ble_eq_true rfl⟩ rfl rfl (Nat.le_of_ble_eq_true rfl) dX10_isStill_24) (mM_isRoom (g (36 + 5 * k))) (fun _ _ _ => zP0) rfl ?_
          refine z_ifB_ne hz 34 dX10_isStill_27 (by decide) (fun c8 => ?_) (fun c8 => ?_)
          · refine z_iconst hz 0 dX10_isStill_34 ki_0 ?_
            refine z_istore_n (lv' := [(0, .ref (ad 99)), (1, .int 0), (2, .int (nI k))]) hz [1, 0, 2] dX10_isStill_35 rfl (by decide) rfl ?_
            refine z_iinc (lv' := [(0, .ref (ad 99)), (1, .int 0), (2, .int (nI (k + 1)))]) hz (nI (k + 1)) 2 [1, 2, 0] dX10_isStill_36 rfl (nI_1 _) (by decide) rfl ?_
            refine z_goto hz 4 dX10_isStill_39 (by decide) ?_
            exact ih_4 (k + 1) 0 (by omega) (by simp only [stillM]; rw [← hs, if_neg (fun h9 => h9.2 c8)]) (by omega)
          · refine z_iconst hz 1 dX10_isStill_30 ki_1 ?_
            refine z_goto hz 35 dX10_isStill_31 (by decide) ?_
            refine z_istore_n (lv' := [(0, .ref (ad 99)), (1, .int 1), (2, .int (nI k))]) hz [1, 0, 2] dX10_isStill_35 rfl (by decide) rfl ?_
            refine z_iinc (lv' := [(0, .ref (ad 99)), (1, .int 1), (2, .int (nI (k + 1)))]) hz (nI (k + 1)) 2 [1, 2, 0] dX10_isStill_36 rfl (nI_1 _) (by decide) rfl ?_
            refine z_goto hz 4 dX10_isStill_39 (by decide) ?_
            exact ih_4 (k + 1) 1 (by omega) (by simp only [stillM]; rw [← hs, if_pos ⟨c7, c8⟩]) (by omega)
  exact lp_4 ((nm - 0) + 1) 0 1 (Nat.zero_le _) rfl (Nat.lt_succ_self _)
set_option maxHeartbeats 1000000 in
theorem mM_last {G : zG} (ad : Nat → Nat) (iv g er : Nat → Int32) (as pl : Nat → Int32) (room : Int32) (hg : gOk g) (hst : ∀ a it : Nat, a < 8 → it ≤ 2399 - tN (g 0) → g (28 + a) < g 10 → stillF (goF g it) ≠ 0 → lastG a g it = -1000002 → lastG a g (2399 - tN (g 0)) = -1000002) : zMet G yX10_last (ws_ yX10_last cX10_last 4 (some .int)) (zRm 4 0 0 150) [.ref (ad 99), .int room] [zO (ad 99) 10 (mFs ad iv), zI (G.2.2.1 0) (ad 0) 602 g, zI (G.2.2.1 0) (ad 4) 6 er, zI (G.2.2.1 0) (ad 2) 602 as, zI (G.2.2.1 0) (ad 12) 60 pl] (fun v9 b9 => v9 = some (.int (rOf (sLast g room))) ∧ ∃ as9 pl9 : Nat → Int32, b9 = [zO (ad 99) 10 (mFs ad iv), zI (G.2.2.1 0) (ad 0) 602 ((sLast g room).2.2), zI (G.2.2.1 0) (ad 4) 6 (eOf er (sLast g room)), zI (G.2.2.1 0) (ad 2) 602 as9, zI (G.2.2.1 0) (ad 12) 60 pl9]) := by
  refine zMet.of (by decide +kernel) (Nat.le_of_ble_eq_true rfl) ?_
  intro p e s m args below meth c A hz hA hr hlk hnm9 Q hQ
  refine z_lv (lv' := [(0, .ref (ad 99)), (1, .int room)]) [0, 1] rfl ?_
  have hok := hg
  obtain ⟨⟨k0, hk0, hn0⟩, ⟨nm, h16, hnm⟩, ⟨nv, h12, hnv, hv⟩, htx⟩ := hg
  have tk0 : tN (nI k0) = k0 := nI_clamp (by omega)
  refine z_iload_n hz dX10_last_0 1 rfl rfl ?_
  refine z_callRD (st2 := [.int (zB (inR room 0 7))]) hz zKp.mt (zk_S hz (rm := (zRm 1 0 0 30)) (As := [.int room]) (rest := []) 1 q2041 q2042 q95 q2043 (by decide +kernel) ⟨Nat.le_of_ble_eq_true rfl, Nat.le_of_ble_eq_true rfl⟩ ⟨Nat.le_of_ble_eq_true rfl, Nat.le_of_ble_eq_true rfl⟩ rfl rfl (Nat.le_of_ble_eq_true rfl) dX10_last_1) (mM_isRoom room) (fun _ _ _ => zP0) rfl ?_
  refine z_ifB_ne hz 14 dX10_last_4 (by decide) (fun c1 => ?_) (fun c1 => ?_)
  · obtain ⟨j, j_lo, j_hi, rfl⟩ := inR_nat 0 7 kn_0 kn_7 (by decide) (by decide) c1
    have t_j : tN (nI j) = j := nI_clamp (by omega)
    refine z_aload_n hz dX10_last_14 0 rfl rfl ?_
    refine z_get (C := RX10) (T := TX10) (N := 29) hz in_X10 (zAt.mt 0 0 rfl rfl) rfl 0 (by decide) q1929 (fun _ h9 => h9) rfl dX10_last_15 ?_
    refine z_bipush hz 28 dX10_last_18 kb_28 ?_
    refine z_iload_n hz dX10_last_20 1 rfl rfl ?_
    refine z_iaddN hz kn_28 rfl dX10_last_21 ?_
    refine z_iald hz (zAt.mt 1 0 rfl rfl) rfl (by omega) (by decide) dX10_last_22 ?_
    refine z_aload_n hz dX10_last_23 0 rfl rfl ?_
    refine z_get (C := RX10) (T := TX10) (N := 29) hz in_X10 (zAt.mt 0 0 rfl rfl) rfl 0 (by decide) q1929 (fun _ h9 => h9) rfl dX10_last_24 ?_
    refine z_bipush hz 10 dX10_last_27 kb_10 ?_
    refine z_iald hz (zAt.mt 1 0 rfl rfl) kn_10 (by decide) (by decide) dX10_last_29 ?_
    refine z_icmp_lt hz 35 dX10_last_30 (by decide) (fun c2 => ?_) (fun c2 => ?_)
    · refine z_aload_n hz dX10_last_35 0 rfl rfl ?_
      refine z_get (C := RX10) (T := TX10) (N := 29) hz in_X10 (zAt.mt 0 0 rfl rfl) rfl 0 (by decide) q1929 (fun _ h9 => h9) rfl dX10_last_36 ?_
      refine z_aload_n hz dX10_last_39 0 rfl rfl ?_
      refine z_get (C := RX10) (T := TX10) (N := 29) hz in_X10 (zAt.mt 0 0 rfl rfl) rfl 2 (by decide) q1931 (fun _ h9 => h9) rfl dX10_last_40 ?_
      refine z_callD (bs2 := [zO (ad 99) 10 (mFs ad iv), zI (G.2.2.1 0) (ad 0) 602 g, zI (G.2.2.1 0) (ad 4) 6 er, zI (G.2.2.1 0) (ad 2) 602 g, zI (G.2.2.1 0) (ad 12) 60 pl]) (st2 := []) hz hA (zk_S hz (rm := (zRm 0 0 0 0)) (As := [.ref (ad 0), .ref (ad 2)]) (rest := []) 2 q2130 q2131 q95 q2132 (by decide +kernel) ⟨Nat.le_of_ble_eq_true rfl, Nat.le_of_ble_eq_true rfl⟩ ⟨Nat.le_of_ble_eq_true rfl, Nat.le_of_ble_eq_true rfl⟩ rfl rfl (Nat.le_of_ble_eq_true rfl) dX10_last_43) (mM_copy (ad 0) (ad 2) g as) [1, 3] rfl (by decide) rfl rfl ?_
      refine z_ldc hz q2133 dX10_last_46 ?_
      refine z_istore_n (lv' := [(0, .ref (ad 99)), (1, .int (nI j)), (2, .int (-1000002))]) hz [1, 2, 0] dX10_last_48 rfl (by decide) rfl ?_
      refine z_iconst hz 1 dX10_last_49 ki_1 ?_
      refine z_istore_n (lv' := [(0, .ref (ad 99)), (1, .int (nI j)), (2, .int (-1000002)), (3, .int 1)]) hz [1, 2, 3, 0] dX10_last_50 rfl (by decide) rfl ?_
      have lp_51 : ∀ (n9 : Nat) (it : Nat) (h : Nat → Int32) (fr : Int32) (pl2 : Nat → Int32), it ≤ 2399 - k0 → h = goF g it → fr = lastG j g it → 2400 - it < n9 → zW p G.1 e (zRm 4 0 0 150) s m args below meth c 4 Q 0 0 (zΦ G A s [zO (ad 99) 10 (mFs ad iv), zI (G.2.2.1 0) (ad 0) 602 h, zI (G.2.2.1 0) (ad 4) 6 er, zI (G.2.2.1 0) (ad 2) 602 g, zI (G.2.2.1 0) (ad 12) 60 pl2]) 51 [(0, .ref (ad 99)), (1, .int (nI j)), (2, .int fr), (3, .int (nI (it + 1)))] [] := by
        intro n9
        induction n9 with
        | zero => intro _ _ _ _ _ _ _ hm; exact absurd hm (Nat.not_lt_zero _)
        | succ n9 ih_51 =>
          intro it h fr pl2 hi hh hf hm_51
          obtain ⟨hn1, hn2, hnq, hnx⟩ := goOk hok hnm hnv hv it
          rw [← hh] at hn1 hn2 hnq hnx
          have hn00 : h 0 = nI (k0 + it) := by rw [hh]; exact goF_0 hok hn0 it
          refine z_iload_n hz dX10_last_51 2 rfl rfl ?_
          refine z_ldc hz q2133 dX10_last_52 ?_
          refine z_icmp_ne hz 116 dX10_last_54 (by decide) (fun c3 => ?_) (fun c3 => ?_)
          · refine z_aload_n hz dX10_last_116 0 rfl rfl ?_
            refine z_get (C := RX10) (T := TX10) (N := 29) hz in_X10 (zAt.mt 0 0 rfl rfl) rfl 2 (by decide) q1931 (fun _ h9 => h9) rfl dX10_last_117 ?_
            refine z_aload_n hz dX10_last_120 0 rfl rfl ?_
            refine z_get (C := RX10) (T := TX10) (N := 29) hz in_X10 (zAt.mt 0 0 rfl rfl) rfl 0 (by decide) q1929 (fun _ h9 => h9) rfl dX10_last_121 ?_
            refine z_callD (bs2 := [zO (ad 99) 10 (mFs ad iv), zI (G.2.2.1 0) (ad 0) 602 g, zI (G.2.2.1 0) (ad 4) 6 er, zI (G.2.2.1 0) (ad 2) 602 g, zI (G.2.2.1 0) (ad 12) 60 pl2]) (st2 := []) hz hA (zk_S hz (rm := (zRm 0 0 0 0)) (As := [.ref (ad 2), .ref (ad 0)]) (rest := []) 2 q2130 q2131 q95 q2132 (by decide +kernel) ⟨Nat.le_of_ble_eq_true rfl, Nat.le_of_ble_eq_true rfl⟩ ⟨Nat.le_of_ble_eq_true rfl, Nat.le_of_ble_eq_true rfl⟩ rfl rfl (Nat.le_of_ble_eq_true rfl) dX10_last_124) (mM_copy (ad 2) (ad 0) g h) [3, 1] rfl (by decide) rfl rfl ?_
            refine z_iload_n hz dX10_last_127 2 rfl rfl ?_
            refine z_ldc hz q2133 dX10_last_128 ?_
            refine z_icmp_neT hz 142 dX10_last_130 (by decide) c3 ?_
            refine z_iload_n hz dX10_last_142 2 rfl rfl ?_
            exact z_iret hQ hz hr hlk dX10_last_143 (by
              have e9 : sLast g (nI j) = (0, fr, g) := by have hX : lastG j g (2399 - k0) = fr := (by rw [hf]; rw [show 2399 - k0 = it + (2399 - k0 - it) by omega]; exact lastG_mono (by rw [← hf]; exact c3) _); simp only [sLast]; rw [if_pos c1, t_j, if_neg (Int32.not_le.mpr c2), hn0, tk0, hX]; rw [if_neg c3]
              rw [e9]; exact ⟨rfl, _, _, rfl⟩)
          · refine z_aload_n hz dX10_last_57 0 rfl rfl ?_
            refine z_get (C := RX10) (T := TX10) (N := 29) hz in_X10 (zAt.mt 0 0 rfl rfl) rfl 0 (by decide) q1929 (fun _ h9 => h9) rfl dX10_last_58 ?_
            refine z_iconst hz 0 dX10_last_61 ki_0 ?_
            refine z_iald hz (zAt.mt 1 0 rfl rfl) kn_0 (by decide) (by decide) dX10_last_62 ?_
            refine z_top hn00 ?_
            refine z_sipush hz 2399 dX10_last_63 ks_2399 ?_
            refine z_icmpN_ge hz rfl kn_2399 (by omega) (by decide) 116 dX10_last_66 (by decide) (fun c4 => ?_) (fun c4 => ?_)
            · refine z_aload_n hz dX10_last_116 0 rfl rfl ?_
              refine z_get (C := RX10) (T := TX10) (N := 29) hz in_X10 (zAt.mt 0 0 rfl rfl) rfl 2 (by decide) q1931 (fun _ h9 => h9) rfl dX10_last_117 ?_
              refine z_aload_n hz dX10_last_120 0 rfl rfl ?_
              refine z_get (C := RX10) (T := TX10) (N := 29) hz in_X10 (zAt.mt 0 0 rfl rfl) rfl 0 (by decide) q1929 (fun _ h9 => h9) rfl dX10_last_121 ?_
              refine z_callD (bs2 := [zO (ad 99) 10 (mFs ad iv), zI (G.2.2.1 0) (ad 0) 602 g, zI (G.2.2.1 0) (ad 4) 6 er, zI (G.2.2.1 0) (ad 2) 602 g, zI (G.2.2.1 0) (ad 12) 60 pl2]) (st2 := []) hz hA (zk_S hz (rm := (zRm 0 0 0 0)) (As := [.ref (ad 2), .ref (ad 0)]) (rest := []) 2 q2130 q2131 q95 q2132 (by decide +kernel) ⟨Nat.le_of_ble_eq_true rfl, Nat.le_of_ble_eq_true rfl⟩ ⟨Nat.le_of_ble_eq_true rfl, Nat.le_of_ble_eq_true rfl⟩ rfl rfl (Nat.le_of_ble_eq_true rfl) dX10_last_124) (mM_copy (ad 2) (ad 0) g h) [3, 1] rfl (by decide) rfl rfl ?_
              refine z_iload_n hz dX10_last_127 2 rfl rfl ?_
              refine z_ldc hz q2133 dX10_last_128 ?_
              refine z_icmp_neF hz 142 dX10_last_130 (by decide) c3 ?_
              refine z_aload_n hz dX10_last_133 0 rfl rfl ?_
              refine z_ldc hz q2133 dX10_last_134 ?_
              refine z_callD (bs2 := [zO (ad 99) 10 (mFs ad iv), zI (G.2.2.1 0) (ad 0) 602 g, zI (G.2.2.1 0) (ad 4) 6 (upd er 2 (er 2 + 1)), zI (G.2.2.1 0) (ad 2) 602 g, zI (G.2.2.1 0) (ad 12) 60 pl2]) (st2 := [.int (-1000002)]) hz hA (zk_V hz (rm := (zRm 0 0 0 0)) (As := [.int (-1000002)]) (rest := []) 1 q2032 q2034 qs35 q95 q2035 (by decide +kernel) ⟨Nat.le_of_ble_eq_true rfl, Nat.le_of_ble_eq_true rfl⟩ ⟨Nat.le_of_ble_eq_true rfl, Nat.le_of_ble_eq_true rfl⟩ (zRecv (q := (RX10, TX10, 29)) hz (zAt.mt 0 0 rfl rfl) rfl) rfl rfl (Nat.le_of_ble_eq_true rfl) dX10_last_136) (mM_finding ad iv er (-1000002) 2 (by decide) (by decide)) [0, 2] rfl (by decide) rfl rfl ?_
              refine z_goto hz 143 dX10_last_139 (by decide) ?_
              exact z_iret hQ hz hr hlk dX10_last_143 (by
                have e9 : sLast g (nI j) = (2, 0, g) := by have hX : lastG j g (2399 - k0) = -1000002 := (by rw [show 2399 - k0 = it by omega, ← hf]; exact c3); simp only [sLast]; rw [if_pos c1, t_j, if_neg (Int32.not_le.mpr c2), hn0, tk0, hX]; rw [if_pos rfl]
                rw [e9]; exact ⟨congrArg (fun z => some (Value.int z)) rE2, _, _, rfl⟩)
            · refine z_aload_n hz dX10_last_69 0 rfl rfl ?_
              refine z_callRD (st2 := [.int (stillF h)]) hz zKp.mt (zk_V hz (rm := (zRm 2 0 0 60)) (As := []) (rest := []) 0 q2134 q2136 qs46 q95 q2137 (by decide +kernel) ⟨Nat.le_of_ble_eq_true rfl, Nat.le_of_ble_eq_true rfl⟩ ⟨Nat.le_of_ble_eq_true rfl, Nat.le_of_ble_eq_true rfl⟩ (zRecv (q := (RX10, TX10, 29)) hz (zAt.mt 0 0 rfl rfl) rfl) rfl rfl (Nat.le_of_ble_eq_true rfl) dX10_last_70) (mM_isStill ad iv h nm hn1 h16) (fun H9 L9 h9 => (zPc (zAt.mt 0 0 rfl rfl) h9 (zPc (zAt.mt 1 0 rfl rfl) h9 zP0))) rfl ?_
              refine z_if_ne hz 116 dX10_last_73 (by decide) (fun c5 => ?_) (fun c5 => ?_)
              · refine z_aload_n hz dX10_last_116 0 rfl rfl ?_
                refine z_get (C := RX10) (T := TX10) (N := 29) hz in_X10 (zAt.mt 0 0 rfl rfl) rfl 2 (by decide) q1931 (fun _ h9 => h9) rfl dX10_last_117 ?_
                refine z_aload_n hz dX10_last_120 0 rfl rfl ?_
                refine z_get (C := RX10) (T := TX10) (N := 29) hz in_X10 (zAt.mt 0 0 rfl rfl) rfl 0 (by decide) q1929 (fun _ h9 => h9) rfl dX10_last_121 ?_
                refine z_callD (bs2 := [zO (ad 99) 10 (mFs ad iv), zI (G.2.2.1 0) (ad 0) 602 g, zI (G.2.2.1 0) (ad 4) 6 er, zI (G.2.2.1 0) (ad 2) 602 g, zI (G.2.2.1 0) (ad 12) 60 pl2]) (st2 := []) hz hA (zk_S hz (rm := (zRm 0 0 0 0)) (As := [.ref (ad 2), .ref (ad 0)]) (rest := []) 2 q2130 q2131 q95 q2132 (by decide +kernel) ⟨Nat.le_of_ble_eq_true rfl, Nat.le_of_ble_eq_true rfl⟩ ⟨Nat.le_of_ble_eq_true rfl, Nat.le_of_ble_eq_true rfl⟩ rfl rfl (Nat.le_of_ble_eq_true rfl) dX10_last_124) (mM_copy (ad 2) (ad 0) g h) [3, 1] rfl (by decide) rfl rfl ?_
                refine z_iload_n hz dX10_last_127 2 rfl rfl ?_
                refine z_ldc hz q2133 dX10_last_128 ?_
                refine z_icmp_neF hz 142 dX10_last_130 (by decide) c3 ?_
                refine z_aload_n hz dX10_last_133 0 rfl rfl ?_
                refine z_ldc hz q2133 dX10_last_134 ?_
                refine z_callD (bs2 := [zO (ad 99) 10 (mFs ad iv), zI (G.2.2.1 0) (ad 0) 602 g, zI (G.2.2.1 0) (ad 4) 6 (upd er 2 (er 2 + 1)), zI (G.2.2.1 0) (ad 2) 602 g, zI (G.2.2.1 0) (ad 12) 60 pl2]) (st2 := [.int (-1000002)]) hz hA (zk_V hz (rm := (zRm 0 0 0 0)) (As := [.int (-1000002)]) (rest := []) 1 q2032 q2034 qs35 q95 q2035 (by decide +kernel) ⟨Nat.le_of_ble_eq_true rfl, Nat.le_of_ble_eq_true rfl⟩ ⟨Nat.le_of_ble_eq_true rfl, Nat.le_of_ble_eq_true rfl⟩ (zRecv (q := (RX10, TX10, 29)) hz (zAt.mt 0 0 rfl rfl) rfl) rfl rfl (Nat.le_of_ble_eq_true rfl) dX10_last_136) (mM_finding ad iv er (-1000002) 2 (by decide) (by decide)) [0, 2] rfl (by decide) rfl rfl ?_
                refine z_goto hz 143 dX10_last_139 (by decide) ?_
                exact z_iret hQ hz hr hlk dX10_last_143 (by
                  have e9 : sLast g (nI j) = (2, 0, g) := by have hX : lastG j g (2399 - k0) = -1000002 := (by have z9 := hst j it (by omega) (by rw [hn0, tk0]; exact hi) c2 (by rw [← hh]; exact c5) (by rw [← hf]; exact c3); rw [hn0, tk0] at z9; exact z9); simp only [sLast]; rw [if_pos c1, t_j, if_neg (Int32.not_le.mpr c2), hn0, tk0, hX]; rw [if_pos rfl]
                  rw [e9]; exact ⟨congrArg (fun z => some (Value.int z)) rE2, _, _, rfl⟩)
              · refine z_aload_n hz dX10_last_76 0 rfl rfl ?_
                refine z_callE (bs2 := fun f6 => [zO (ad 99) 10 (mFs ad iv), zI (G.2.2.1 0) (ad 0) 602 (breatheF h), zI (G.2.2.1 0) (ad 4) 6 er, zI (G.2.2.1 0) (ad 2) 602 g, zI (G.2.2.1 0) (ad 12) 60 f6]) (st2 := []) hz hA (zk_V hz (rm := (zRm 3 0 0 110)) (As := []) (rest := []) 0 q2094 q2096 qs40 q95 q2097 (by decide +kernel) ⟨Nat.le_of_ble_eq_true rfl, Nat.le_of_ble_eq_true rfl⟩ ⟨Nat.le_of_ble_eq_true rfl, Nat.le_of_ble_eq_true rfl⟩ (zRecv (q := (RX10, TX10, 29)) hz (zAt.mt 0 0 rfl rfl) rfl) rfl rfl (Nat.le_of_ble_eq_true rfl) dX10_last_77) (mM_air ad iv h pl2 nm hn1 h16 (hnx 0 (by decide))) [0, 1, 4] rfl (by decide) (fun _ => rfl) rfl (fun f6 => ?_)
                refine z_aload_n hz dX10_last_80 0 rfl rfl ?_
                refine z_get (C := RX10) (T := TX10) (N := 29) hz in_X10 (zAt.mt 0 0 rfl rfl) rfl 0 (by decide) q1929 (fun _ h9 => h9) rfl dX10_last_81 ?_
                refine z_bipush hz 28 dX10_last_84 kb_28 ?_
                refine z_iload_n hz dX10_last_86 1 rfl rfl ?_
                refine z_iaddN hz kn_28 rfl dX10_last_87 ?_
                refine z_iald hz (zAt.mt 1 0 rfl rfl) rfl (by omega) (by decide) dX10_last_88 ?_
                refine z_aload_n hz dX10_last_89 0 rfl rfl ?_
                refine z_get (C := RX10) (T := TX10) (N := 29) hz in_X10 (zAt.mt 0 0 rfl rfl) rfl 0 (by decide) q1929 (fun _ h9 => h9) rfl dX10_last_90 ?_
                refine z_bipush hz 10 dX10_last_93 kb_10 ?_
                refine z_iald hz (zAt.mt 1 0 rfl rfl) kn_10 (by decide) (by decide) dX10_last_95 ?_
                refine z_icmp_lt hz 103 dX10_last_96 (by decide) (fun c7 => ?_) (fun c7 => ?_)
                · refine z_ldc hz q2133 dX10_last_103 ?_
                  refine z_istore_n (lv' := [(0, .ref (ad 99)), (1, .int (nI j)), (2, .int (-1000002)), (3, .int (nI (it + 1)))]) hz [1, 2, 0, 3] dX10_last_105 rfl (by decide) rfl ?_
                  refine z_aload_n hz dX10_last_106 0 rfl rfl ?_
                  refine z_callD (bs2 := [zO (ad 99) 10 (mFs ad iv), zI (G.2.2.1 0) (ad 0) 602 (restF (breatheF h)), zI (G.2.2.1 0) (ad 4) 6 er, zI (G.2.2.1 0) (ad 2) 602 g, zI (G.2.2.1 0) (ad 12) 60 f6]) (st2 := []) hz hA (zk_V hz (rm := (zRm 3 0 0 90)) (As := []) (rest := []) 0 q2118 q2120 qs44 q95 q2121 (by decide +kernel) ⟨Nat.le_of_ble_eq_true rfl, Nat.le_of_ble_eq_true rfl⟩ ⟨Nat.le_of_ble_eq_true rfl, Nat.le_of_ble_eq_true rfl⟩ (zRecv (q := (RX10, TX10, 29)) hz (zAt.mt 0 0 rfl rfl) rfl) rfl rfl (Nat.le_of_ble_eq_true rfl) dX10_last_107) (mM_rest ad iv (breatheF h) nm (by rw [breatheF_o (by omega)]; exact hn1) h16 nv (by rw [breatheF_o (by omega)]; exact hn2) h12 (fun i hi => by rw [breatheF_o (by omega)]; exact hnq i hi)) [0, 1] rfl (by decide) rfl rfl ?_
                  refine z_iinc (lv' := [(0, .ref (ad 99)), (1, .int (nI j)), (2, .int (-1000002)), (3, .int (nI (it + 1 + 1)))]) hz (nI (it + 1 + 1)) 3 [1, 2, 3, 0] dX10_last_110 rfl (nI_1 _) (by decide) rfl ?_
                  refine z_goto hz 51 dX10_last_113 (by decide) ?_
                  exact ih_51 (it + 1) (restF (breatheF h)) (-1000002) f6 (by omega) (by rw [hh]; rfl) (by simp only [lastG]; rw [← hf, if_pos c3, ← hh, if_neg (Int32.not_le.mpr c7)]) (by omega)
                · refine z_iload_n hz dX10_last_99 3 rfl rfl ?_
                  refine z_goto hz 105 dX10_last_100 (by decide) ?_
                  refine z_istore_n (lv' := [(0, .ref (ad 99)), (1, .int (nI j)), (2, .int (nI (it + 1))), (3, .int (nI (it + 1)))]) hz [1, 2, 0, 3] dX10_last_105 rfl (by decide) rfl ?_
                  refine z_aload_n hz dX10_last_106 0 rfl rfl ?_
                  refine z_callD (bs2 := [zO (ad 99) 10 (mFs ad iv), zI (G.2.2.1 0) (ad 0) 602 (restF (breatheF h)), zI (G.2.2.1 0) (ad 4) 6 er, zI (G.2.2.1 0) (ad 2) 602 g, zI (G.2.2.1 0) (ad 12) 60 f6]) (st2 := []) hz hA (zk_V hz (rm := (zRm 3 0 0 90)) (As := []) (rest := []) 0 q2118 q2120 qs44 q95 q2121 (by decide +kernel) ⟨Nat.le_of_ble_eq_true rfl, Nat.le_of_ble_eq_true rfl⟩ ⟨Nat.le_of_ble_eq_true rfl, Nat.le_of_ble_eq_true rfl⟩ (zRecv (q := (RX10, TX10, 29)) hz (zAt.mt 0 0 rfl rfl) rfl) rfl rfl (Nat.le_of_ble_eq_true rfl) dX10_last_107) (mM_rest ad iv (breatheF h) nm (by rw [breatheF_o (by omega)]; exact hn1) h16 nv (by rw [breatheF_o (by omega)]; exact hn2) h12 (fun i hi => by rw [breatheF_o (by omega)]; exact hnq i hi)) [0, 1] rfl (by decide) rfl rfl ?_
                  refine z_iinc (lv' := [(0, .ref (ad 99)), (1, .int (nI j)), (2, .int (nI (it + 1))), (3, .int (nI (it + 1 + 1)))]) hz (nI (it + 1 + 1)) 3 [1, 2, 3, 0] dX10_last_110 rfl (nI_1 _) (by decide) rfl ?_
                  refine z_goto hz 51 dX10_last_113 (by decide) ?_
                  exact ih_51 (it + 1) (restF (breatheF h)) (nI (it + 1)) f6 (by omega) (by rw [hh]; rfl) (by simp only [lastG]; rw [← hf, if_pos c3, ← hh, if_pos (Int32.not_lt.mp c7)]) (by omega)
      exact lp_51 ((2400 - 0) + 1) 0 g (-1000002) pl (Nat.zero_le _) rfl rfl (Nat.lt_succ_self _)
    · refine z_iconst hz 0 dX10_last_33 ki_0 ?_
      exact z_iret hQ hz hr hlk dX10_last_34 (by
        have e9 : sLast g (nI j) = (0, 0, g) := by simp [sLast, inR, nI_clamp, c1, c2, t_j, hn0, tk0]
        rw [e9]; exact ⟨rfl, _, _, rfl⟩)
  · refine z_aload_n hz dX10_last_7 0 rfl rfl ?_
    refine z_ldc hz q2031 dX10_last_8 ?_
    refine z_callD (bs2 := [zO (ad 99) 10 (mFs ad iv), zI (G.2.2.1 0) (ad 0) 602 g, zI (G.2.2.1 0) (ad 4) 6 (upd er 1 (er 1 + 1)), zI (G.2.2.1 0) (ad 2) 602 as, zI (G.2.2.1 0) (ad 12) 60 pl]) (st2 := [.int (-1000001)]) hz hA (zk_V hz (rm := (zRm 0 0 0 0)) (As := [.int (-1000001)]) (rest := []) 1 q2032 q2034 qs35 q95 q2035 (by decide +kernel) ⟨Nat.le_of_ble_eq_true rfl, Nat.le_of_ble_eq_true rfl⟩ ⟨Nat.le_of_ble_eq_true rfl, Nat.le_of_ble_eq_true rfl⟩ (zRecv (q := (RX10, TX10, 29)) hz (zAt.mt 0 0 rfl rfl) rfl) rfl rfl (Nat.le_of_ble_eq_true rfl) dX10_last_10) (mM_finding ad iv er (-1000001) 1 (by decide) (by decide)) [0, 2] rfl (by decide) rfl rfl ?_
    exact z_iret hQ hz hr hlk dX10_last_13 (by
      have e9 : sLast g room = (1, 0, g) := by simp [sLast, inR, nI_clamp, c1, hn0, tk0]
      rw [e9]; exact ⟨congrArg (fun z => some (Value.int z)) rE1, _, _, rfl⟩)
set_option maxHeartbeats 400000 in
theorem mM_dead {G : zG} (ad : Nat → Nat) (iv g er : Nat → Int32) (as pl : Nat → Int32) (nn : Int32) (hg : gOk g) : zMet G yX10_dead (ws_ yX10_dead cX10_dead 3 (some .int)) (zRm 4 0 0 150) [.ref (ad 99), .int nn] [zO (ad 99) 10 (mFs ad iv), zI (G.2.2.1 0) (ad 0) 602 g, zI (G.2.2.1 0) (ad 4) 6 er, zI (G.2.2.1 0) (ad 2) 602 as, zI (G.2.2.1 0) (ad 12) 60 pl] (fun v9 b9 => v9 = some (.int (rOf (sDead g nn))) ∧ ∃ as9 pl9 : Nat → Int32, b9 = [zO (ad 99) 10 (mFs ad iv), zI (G.2.2.1 0) (ad 0) 602 ((sDead g nn).2.2), zI (G.2.2.1 0) (ad 4) 6 (eOf er (sDead g nn)), zI (G.2.2.1 0) (ad 2) 602 as9, zI (G.2.2.1 0) (ad 12) 60 pl9]) := by
  refine zMet.of (by decide +kernel) (Nat.le_of_ble_eq_true rfl) ?_
  intro p e s m args below meth c A hz hA hr hlk hnm9 Q hQ
  refine z_lv (lv' := [(0, .ref (ad 99)), (1, .int nn)]) [0, 1] rfl ?_
  have hok := hg
  obtain ⟨⟨k0, hk0, hn0⟩, ⟨nm, h16, hnm⟩, ⟨nv, h12, hnv, hv⟩, htx⟩ := hg
  have tk0 : tN (nI k0) = k0 := nI_clamp (by omega)
  have tnm : tN (nI nm) = nm := nI_clamp (by omega)
  refine z_iload_n hz dX10_dead_0 1 rfl rfl ?_
  refine z_iconst hz 1 dX10_dead_1 ki_1 ?_
  refine z_sipush hz 600 dX10_dead_2 ks_600 ?_
  refine z_callRD (st2 := [.int (zB (inR nn 1 600))]) hz zKp.mt (zk_S hz (rm := (zRm 0 0 0 0)) (As := [.int nn, .int 1, .int 600]) (rest := []) 3 q2023 q2024 q95 q2025 (by decide +kernel) ⟨Nat.le_of_ble_eq_true rfl, Nat.le_of_ble_eq_true rfl⟩ ⟨Nat.le_of_ble_eq_true rfl, Nat.le_of_ble_eq_true rfl⟩ rfl rfl (Nat.le_of_ble_eq_true rfl) dX10_dead_5) (mM_within nn 1 600) (fun _ _ _ => zP0) rfl ?_
  refine z_ifB_ne hz 18 dX10_dead_8 (by decide) (fun c1 => ?_) (fun c1 => ?_)
  · obtain ⟨j, j_lo, j_hi, rfl⟩ := inR_nat 1 600 kn_1 kn_600 (by decide) (by decide) c1
    have t_j : tN (nI j) = j := nI_clamp (by omega)
    refine z_aload_n hz dX10_dead_18 0 rfl rfl ?_
    refine z_get (C := RX10) (T := TX10) (N := 29) hz in_X10 (zAt.mt 0 0 rfl rfl) rfl 0 (by decide) q1929 (fun _ h9 => h9) rfl dX10_dead_19 ?_
    refine z_iconst hz 0 dX10_dead_22 ki_0 ?_
    refine z_iald hz (zAt.mt 1 0 rfl rfl) kn_0 (by decide) (by decide) dX10_dead_23 ?_
    refine z_top hn0 ?_
    refine z_iload_n hz dX10_dead_24 1 rfl rfl ?_
    refine z_iaddN hz rfl rfl dX10_dead_25 ?_
    refine z_sipush hz 2399 dX10_dead_26 ks_2399 ?_
    refine z_icmpN_le hz rfl kn_2399 (by omega) (by decide) 39 dX10_dead_29 (by decide) (fun c2 => ?_) (fun c2 => ?_)
    · refine z_aload_n hz dX10_dead_39 0 rfl rfl ?_
      refine z_get (C := RX10) (T := TX10) (N := 29) hz in_X10 (zAt.mt 0 0 rfl rfl) rfl 0 (by decide) q1929 (fun _ h9 => h9) rfl dX10_dead_40 ?_
      refine z_aload_n hz dX10_dead_43 0 rfl rfl ?_
      refine z_get (C := RX10) (T := TX10) (N := 29) hz in_X10 (zAt.mt 0 0 rfl rfl) rfl 2 (by decide) q1931 (fun _ h9 => h9) rfl dX10_dead_44 ?_
      refine z_callD (bs2 := [zO (ad 99) 10 (mFs ad iv), zI (G.2.2.1 0) (ad 0) 602 g, zI (G.2.2.1 0) (ad 4) 6 er, zI (G.2.2.1 0) (ad 2) 602 g, zI (G.2.2.1 0) (ad 12) 60 pl]) (st2 := []) hz hA (zk_S hz (rm := (zRm 0 0 0 0)) (As := [.ref (ad 0), .ref (ad 2)]) (rest := []) 2 q2130 q2131 q95 q2132 (by decide +kernel) ⟨Nat.le_of_ble_eq_true rfl, Nat.le_of_ble_eq_true rfl⟩ ⟨Nat.le_of_ble_eq_true rfl, Nat.le_of_ble_eq_true rfl⟩ rfl rfl (Nat.le_of_ble_eq_true rfl) dX10_dead_47) (mM_copy (ad 0) (ad 2) g as) [1, 3] rfl (by decide) rfl rfl ?_
      refine z_iconst hz 0 dX10_dead_50 ki_0 ?_
      refine z_istore_n (lv' := [(0, .ref (ad 99)), (1, .int (nI j)), (2, .int 0)]) hz [1, 2, 0] dX10_dead_51 rfl (by decide) rfl ?_
      have lp_52 : ∀ (n9 : Nat) (k : Nat) (h : Nat → Int32) (pl2 : Nat → Int32), k ≤ j → h = goF g k → j - k < n9 → zW p G.1 e (zRm 4 0 0 150) s m args below meth c 3 Q 0 0 (zΦ G A s [zO (ad 99) 10 (mFs ad iv), zI (G.2.2.1 0) (ad 0) 602 h, zI (G.2.2.1 0) (ad 4) 6 er, zI (G.2.2.1 0) (ad 2) 602 g, zI (G.2.2.1 0) (ad 12) 60 pl2]) 52 [(0, .ref (ad 99)), (1, .int (nI j)), (2, .int (nI k))] [] := by
        intro n9
        induction n9 with
        | zero => intro _ _ _ _ _ hm; exact absurd hm (Nat.not_lt_zero _)
        | succ n9 ih_52 =>
          intro k h pl2 hk hh hm_52
          obtain ⟨hn1, hn2, hnq, hnx⟩ := goOk hok hnm hnv hv k
          rw [← hh] at hn1 hn2 hnq hnx
          refine z_iload_n hz dX10_dead_52 2 rfl rfl ?_
          refine z_iload_n hz dX10_dead_53 1 rfl rfl ?_
          refine z_icmpN_ge hz rfl rfl (by omega) (by omega) 71 dX10_dead_54 (by decide) (fun c3 => ?_) (fun c3 => ?_)
          · obtain rfl : j = k := by omega
            subst hh
            refine z_aload_n hz dX10_dead_71 0 rfl rfl ?_
            refine z_bipush hz 10 dX10_dead_72 kb_10 ?_
            refine z_callRD (st2 := [.int (menF (goF g j) 10 nm)]) hz zKp.mt (zk_V hz (rm := (zRm 1 0 0 30)) (As := [.int 10]) (rest := []) 1 q2082 q2084 qs39 q95 q2085 (by decide +kernel) ⟨Nat.le_of_ble_eq_true rfl, Nat.le_of_ble_eq_true rfl⟩ ⟨Nat.le_of_ble_eq_true rfl, Nat.le_of_ble_eq_true rfl⟩ (zRecv (q := (RX10, TX10, 29)) hz (zAt.mt 0 0 rfl rfl) rfl) rfl rfl (Nat.le_of_ble_eq_true rfl) dX10_dead_74) (mM_menIn ad iv (goF g j) 10 nm hn1 h16) (fun H9 L9 h9 => (zPc (zAt.mt 0 0 rfl rfl) h9 (zPc (zAt.mt 1 0 rfl rfl) h9 zP0))) rfl ?_
            refine z_callRD (st2 := [.int (bitsF (menF (goF g j) 10 nm) 16)]) hz zKp.mt (zk_S hz (rm := (zRm 0 0 0 0)) (As := [.int (menF (goF g j) 10 nm)]) (rest := []) 1 q2142 q2143 q95 q2144 (by decide +kernel) ⟨Nat.le_of_ble_eq_true rfl, Nat.le_of_ble_eq_true rfl⟩ ⟨Nat.le_of_ble_eq_true rfl, Nat.le_of_ble_eq_true rfl⟩ rfl rfl (Nat.le_of_ble_eq_true rfl) dX10_dead_77) (mM_bits (menF (goF g j) 10 nm)) (fun _ _ _ => zP0) rfl ?_
            refine z_istore_n (lv' := [(0, .ref (ad 99)), (1, .int (nI j)), (2, .int (bitsF (menF (goF g j) 10 nm) 16))]) hz [1, 2, 0] dX10_dead_80 rfl (by decide) rfl ?_
            refine z_aload_n hz dX10_dead_81 0 rfl rfl ?_
            refine z_get (C := RX10) (T := TX10) (N := 29) hz in_X10 (zAt.mt 0 0 rfl rfl) rfl 2 (by decide) q1931 (fun _ h9 => h9) rfl dX10_dead_82 ?_
            refine z_aload_n hz dX10_dead_85 0 rfl rfl ?_
            refine z_get (C := RX10) (T := TX10) (N := 29) hz in_X10 (zAt.mt 0 0 rfl rfl) rfl 0 (by decide) q1929 (fun _ h9 => h9) rfl dX10_dead_86 ?_
            refine z_callD (bs2 := [zO (ad 99) 10 (mFs ad iv), zI (G.2.2.1 0) (ad 0) 602 g, zI (G.2.2.1 0) (ad 4) 6 er, zI (G.2.2.1 0) (ad 2) 602 g, zI (G.2.2.1 0) (ad 12) 60 pl2]) (st2 := []) hz hA (zk_S hz (rm := (zRm 0 0 0 0)) (As := [.ref (ad 2), .ref (ad 0)]) (rest := []) 2 q2130 q2131 q95 q2132 (by decide +kernel) ⟨Nat.le_of_ble_eq_true rfl, Nat.le_of_ble_eq_true rfl⟩ ⟨Nat.le_of_ble_eq_true rfl, Nat.le_of_ble_eq_true rfl⟩ rfl rfl (Nat.le_of_ble_eq_true rfl) dX10_dead_89) (mM_copy (ad 2) (ad 0) g (goF g j)) [3, 1] rfl (by decide) rfl rfl ?_
            refine z_iload_n hz dX10_dead_92 2 rfl rfl ?_
            exact z_iret hQ hz hr hlk dX10_dead_93 (by
              have e9 : sDead g (nI j) = (0, bitsF (menF (goF g j) 10 nm) 16, g) := by simp [sDead, inR, nI_clamp, c1, c2, c3, t_j, hn0, hn0, tk0, hnm, tnm]
              rw [e9]; exact ⟨rfl, _, _, rfl⟩)
          · refine z_aload_n hz dX10_dead_57 0 rfl rfl ?_
            refine z_callE (bs2 := fun f4 => [zO (ad 99) 10 (mFs ad iv), zI (G.2.2.1 0) (ad 0) 602 (breatheF h), zI (G.2.2.1 0) (ad 4) 6 er, zI (G.2.2.1 0) (ad 2) 602 g, zI (G.2.2.1 0) (ad 12) 60 f4]) (st2 := []) hz hA (zk_V hz (rm := (zRm 3 0 0 110)) (As := []) (rest := []) 0 q2094 q2096 qs40 q95 q2097 (by decide +kernel) ⟨Nat.le_of_ble_eq_true rfl, Nat.le_of_ble_eq_true rfl⟩ ⟨Nat.le_of_ble_eq_true rfl, Nat.le_of_ble_eq_true rfl⟩ (zRecv (q := (RX10, TX10, 29)) hz (zAt.mt 0 0 rfl rfl) rfl) rfl rfl (Nat.le_of_ble_eq_true rfl) dX10_dead_58) (mM_air ad iv h pl2 nm hn1 h16 (hnx 0 (by decide))) [0, 1, 4] rfl (by decide) (fun _ => rfl) rfl (fun f4 => ?_)
            refine z_aload_n hz dX10_dead_61 0 rfl rfl ?_
            refine z_callD (bs2 := [zO (ad 99) 10 (mFs ad iv), zI (G.2.2.1 0) (ad 0) 602 (restF (breatheF h)), zI (G.2.2.1 0) (ad 4) 6 er, zI (G.2.2.1 0) (ad 2) 602 g, zI (G.2.2.1 0) (ad 12) 60 f4]) (st2 := []) hz hA (zk_V hz (rm := (zRm 3 0 0 90)) (As := []) (rest := []) 0 q2118 q2120 qs44 q95 q2121 (by decide +kernel) ⟨Nat.le_of_ble_eq_true rfl, Nat.le_of_ble_eq_true rfl⟩ ⟨Nat.le_of_ble_eq_true rfl, Nat.le_of_ble_eq_true rfl⟩ (zRecv (q := (RX10, TX10, 29)) hz (zAt.mt 0 0 rfl rfl) rfl) rfl rfl (Nat.le_of_ble_eq_true rfl) dX10_dead_62) (mM_rest ad iv (breatheF h) nm (by rw [breatheF_o (by omega)]; exact hn1) h16 nv (by rw [breatheF_o (by omega)]; exact hn2) h12 (fun i hi => by rw [breatheF_o (by omega)]; exact hnq i hi)) [0, 1] rfl (by decide) rfl rfl ?_
            refine z_iinc (lv' := [(0, .ref (ad 99)), (1, .int (nI j)), (2, .int (nI (k + 1)))]) hz (nI (k + 1)) 2 [1, 2, 0] dX10_dead_65 rfl (nI_1 _) (by decide) rfl ?_
            refine z_goto hz 52 dX10_dead_68 (by decide) ?_
            exact ih_52 (k + 1) (restF (breatheF h)) f4 (by omega) (by rw [hh]; rfl) (by omega)
      exact lp_52 ((j - 0) + 1) 0 g pl (Nat.zero_le _) rfl (Nat.lt_succ_self _)
    · refine z_aload_n hz dX10_dead_32 0 rfl rfl ?_
      refine z_ldc hz q2061 dX10_dead_33 ?_
      refine z_callD (bs2 := [zO (ad 99) 10 (mFs ad iv), zI (G.2.2.1 0) (ad 0) 602 g, zI (G.2.2.1 0) (ad 4) 6 (upd er 3 (er 3 + 1)), zI (G.2.2.1 0) (ad 2) 602 as, zI (G.2.2.1 0) (ad 12) 60 pl]) (st2 := [.int (-1000003)]) hz hA (zk_V hz (rm := (zRm 0 0 0 0)) (As := [.int (-1000003)]) (rest := []) 1 q2032 q2034 qs35 q95 q2035 (by decide +kernel) ⟨Nat.le_of_ble_eq_true rfl, Nat.le_of_ble_eq_true rfl⟩ ⟨Nat.le_of_ble_eq_true rfl, Nat.le_of_ble_eq_true rfl⟩ (zRecv (q := (RX10, TX10, 29)) hz (zAt.mt 0 0 rfl rfl) rfl) rfl rfl (Nat.le_of_ble_eq_true rfl) dX10_dead_35) (mM_finding ad iv er (-1000003) 3 (by decide) (by decide)) [0, 2] rfl (by decide) rfl rfl ?_
      exact z_iret hQ hz hr hlk dX10_dead_38 (by
        have e9 : sDead g (nI j) = (3, 0, g) := by simp [sDead, inR, nI_clamp, c1, c2, t_j, hn0, tk0, hnm, tnm]
        rw [e9]; exact ⟨congrArg (fun z => some (Value.int z)) rE3, _, _, rfl⟩)
  · refine z_aload_n hz dX10_dead_11 0 rfl rfl ?_
    refine z_ldc hz q2031 dX10_dead_12 ?_
    refine z_callD (bs2 := [zO (ad 99) 10 (mFs ad iv), zI (G.2.2.1 0) (ad 0) 602 g, zI (G.2.2.1 0) (ad 4) 6 (upd er 1 (er 1 + 1)), zI (G.2.2.1 0) (ad 2) 602 as, zI (G.2.2.1 0) (ad 12) 60 pl]) (st2 := [.int (-1000001)]) hz hA (zk_V hz (rm := (zRm 0 0 0 0)) (As := [.int (-1000001)]) (rest := []) 1 q2032 q2034 qs35 q95 q2035 (by decide +kernel) ⟨Nat.le_of_ble_eq_true rfl, Nat.le_of_ble_eq_true rfl⟩ ⟨Nat.le_of_ble_eq_true rfl, Nat.le_of_ble_eq_true rfl⟩ (zRecv (q := (RX10, TX10, 29)) hz (zAt.mt 0 0 rfl rfl) rfl) rfl rfl (Nat.le_of_ble_eq_true rfl) dX10_dead_14) (mM_finding ad iv er (-1000001) 1 (by decide) (by decide)) [0, 2] rfl (by decide) rfl rfl ?_
    exact z_iret hQ hz hr hlk dX10_dead_17 (by
      have e9 : sDead g nn = (1, 0, g) := by simp [sDead, inR, nI_clamp, c1, hn0, tk0, hnm, tnm]
      rw [e9]; exact ⟨congrArg (fun z => some (Value.int z)) rE1, _, _, rfl⟩)
