set_option maxRecDepth 100000
def nmdF (G : zG) : Nat → Option Nat := fun k => some (G.2.2.2 (1 + k))
set_option maxHeartbeats 400000 in
theorem mM_here {G : zG} (ad : Nat → Nat) (iv g : Nat → Int32) (n0 u d : Nat) (sp : zP) (hn6 : g 6 = nI n0) (hn50 : n0 ≤ 50) (hu : u < 4) (h1 : sp.1 ≤ n0) : zRd G yX10_here (ws_ yX10_here cX10_here 1 (some .int)) (zRm 0 0 0 0) [.ref (ad 99)] [(ad 99, .inr (10, mFs ad (upd (upd (upd (upd (upd iv 8 (nI u)) 7 (nI d)) 6 (nI sp.1)) 9 (zB (sp.2.1 = true))) 11 (nI sp.2.2.2)))), (ad 0, .inl (G.2.2.1 0, 602, .inl g))] (fun v9 => v9 = some (.int (hereF g n0 sp))) := by
  refine zRd.of (by decide +kernel) (Nat.le_of_ble_eq_true rfl) ?_
  intro p e s m args below meth c hz hP hr hlk Q hQ
  refine z_lv (lv' := [(0, .ref (ad 99))]) [0] rfl ?_
  refine z_aload_n hz dX10_here_0 0 rfl rfl ?_
  refine z_get (C := RX10) (T := TX10) (N := 29) hz in_X10 (zAt.rd hP 0 rfl) rfl 9 (by decide) q1938 (fun _ h9 => h9) rfl dX10_here_1 ?_
  refine z_ifB_ne hz 37 dX10_here_4 (by decide) (fun c1 => ?_) (fun c1 => ?_)
  · refine z_iconst hz (-1) dX10_here_37 ki_m1 ?_
    exact zr_iret hQ hz hr hlk dX10_here_38 (by unfold hereF; rw [if_neg (fun h9 => by rw [c1] at h9; exact absurd h9.1 (by decide))])
  · refine z_aload_n hz dX10_here_7 0 rfl rfl ?_
    refine z_get (C := RX10) (T := TX10) (N := 29) hz in_X10 (zAt.rd hP 0 rfl) rfl 6 (by decide) q1935 (fun _ h9 => h9) rfl dX10_here_8 ?_
    refine z_aload_n hz dX10_here_11 0 rfl rfl ?_
    refine z_get (C := RX10) (T := TX10) (N := 29) hz in_X10 (zAt.rd hP 0 rfl) rfl 0 (by decide) q1929 (fun _ h9 => h9) rfl dX10_here_12 ?_
    refine z_bipush hz 6 dX10_here_15 kb_6 ?_
    refine z_iald hz (zAt.rd hP 1 rfl) kn_6 (by decide) (by decide) dX10_here_17 ?_
    refine z_top hn6 ?_
    refine z_icmpN_ge hz rfl rfl (by omega) (by omega) 37 dX10_here_18 (by decide) (fun c2 => ?_) (fun c2 => ?_)
    · refine z_iconst hz (-1) dX10_here_37 ki_m1 ?_
      exact zr_iret hQ hz hr hlk dX10_here_38 (by unfold hereF; rw [if_neg (fun h9 => c2 h9.2)])
    · refine z_aload_n hz dX10_here_21 0 rfl rfl ?_
      refine z_get (C := RX10) (T := TX10) (N := 29) hz in_X10 (zAt.rd hP 0 rfl) rfl 0 (by decide) q1929 (fun _ h9 => h9) rfl dX10_here_22 ?_
      refine z_sipush hz 324 dX10_here_25 ks_324 ?_
      refine z_aload_n hz dX10_here_28 0 rfl rfl ?_
      refine z_get (C := RX10) (T := TX10) (N := 29) hz in_X10 (zAt.rd hP 0 rfl) rfl 6 (by decide) q1935 (fun _ h9 => h9) rfl dX10_here_29 ?_
      refine z_iaddN hz kn_324 rfl dX10_here_32 ?_
      refine z_iald hz (zAt.rd hP 1 rfl) rfl (by omega) (by decide) dX10_here_33 ?_
      refine z_goto hz 38 dX10_here_34 (by decide) ?_
      exact zr_iret hQ hz hr hlk dX10_here_38 (by unfold hereF; rw [if_pos ⟨Bool.eq_false_iff.mpr c1, c2⟩])
set_option maxHeartbeats 400000 in
theorem mM_takes {G : zG} (ad : Nat → Nat) (iv g : Nat → Int32) (n0 u d : Nat) (sp : zP) (hn6 : g 6 = nI n0) (hn50 : n0 ≤ 50) (hu : u < 4) (h1 : sp.1 ≤ n0) (cc9 : Int32) : zMet G yX10_takes (ws_ yX10_takes cX10_takes 3 (some .boolean)) (zRm 1 0 0 30) [.ref (ad 99), .int cc9] [zO (ad 99) 10 (mFs ad (upd (upd (upd (upd (upd iv 8 (nI u)) 7 (nI d)) 6 (nI sp.1)) 9 (zB (sp.2.1 = true))) 11 (nI sp.2.2.2))), zI (G.2.2.1 0) (ad 0) 602 g] (fun v9 b9 => v9 = some (.int (zB (hereF g n0 sp = cc9))) ∧ b9 = [zO (ad 99) 10 (mFs ad (upd (upd (upd (upd (upd iv 8 (nI u)) 7 (nI d)) 6 (nI ((tkF g n0 cc9 sp).1))) 9 (zB ((tkF g n0 cc9 sp).2.1 = true))) 11 (nI ((tkF g n0 cc9 sp).2.2.2)))), zI (G.2.2.1 0) (ad 0) 602 g]) := by
  refine zMet.of (by decide +kernel) (Nat.le_of_ble_eq_true rfl) ?_
  intro p e s m args below meth c A hz hA hr hlk hnm9 Q hQ
  refine z_lv (lv' := [(0, .ref (ad 99)), (1, .int cc9)]) [0, 1] rfl ?_
  refine z_aload_n hz dX10_takes_0 0 rfl rfl ?_
  refine z_callRD (st2 := [.int (hereF g n0 sp)]) hz zKp.mt (zk_V hz (rm := (zRm 0 0 0 0)) (As := []) (rest := []) 0 q2178 q2180 qs53 q95 q2181 (by decide +kernel) ⟨Nat.le_of_ble_eq_true rfl, Nat.le_of_ble_eq_true rfl⟩ ⟨Nat.le_of_ble_eq_true rfl, Nat.le_of_ble_eq_true rfl⟩ (zRecv (q := (RX10, TX10, 29)) hz (zAt.mt 0 0 rfl rfl) rfl) rfl rfl (Nat.le_of_ble_eq_true rfl) dX10_takes_1) (mM_here ad iv g n0 u d sp hn6 hn50 hu h1) (fun H9 L9 h9 => (zPc (zAt.mt 0 0 rfl rfl) h9 (zPc (zAt.mt 1 0 rfl rfl) h9 zP0))) rfl ?_
  refine z_iload_n hz dX10_takes_4 1 rfl rfl ?_
  refine z_icmp_ne hz 12 dX10_takes_5 (by decide) (fun c1 => ?_) (fun c1 => ?_)
  · refine z_iconst hz 0 dX10_takes_12 ki_0 ?_
    refine z_istore_n (lv' := [(0, .ref (ad 99)), (1, .int cc9), (2, .int 0)]) hz [1, 2, 0] dX10_takes_13 rfl (by decide) rfl ?_
    refine z_aload_n hz dX10_takes_14 0 rfl rfl ?_
    refine z_dup hz dX10_takes_15 rfl ?_
    refine z_get (C := RX10) (T := TX10) (N := 29) hz in_X10 (zAt.mt 0 0 rfl rfl) rfl 6 (by decide) q1935 (fun _ h9 => h9) rfl dX10_takes_16 ?_
    refine z_iload_n hz dX10_takes_19 2 rfl rfl ?_
    refine z_if_eqT hz 27 dX10_takes_20 (by decide) (by decide) ?_
    refine z_iconst hz 0 dX10_takes_27 ki_0 ?_
    refine z_iaddN hz rfl kn_0 dX10_takes_28 ?_
    refine z_put (C := RX10) (T := TX10) (N := 29) hz in_X10 tyX10 tyX10_ok nmX10 0 0 rfl rfl rfl 6 (by decide) q1935 (fun _ h9 => h9) rfl rfl rfl (Nat.le_of_ble_eq_true rfl) dX10_takes_29 ?_
    refine z_bs (bs2 := [zO (ad 99) 10 (mFs ad (upd (upd (upd (upd (upd iv 8 (nI u)) 7 (nI d)) 9 (zB (sp.2.1 = true))) 11 (nI sp.2.2.2)) 6 (nI sp.1))), zI (G.2.2.1 0) (ad 0) 602 g]) rfl ?_
    refine z_iload_n hz dX10_takes_32 2 rfl rfl ?_
    exact z_zret hQ hz hr hlk (by decide) dX10_takes_33 ⟨(by rw [zB_f c1]), (by rw [show tkF g n0 cc9 sp = sp from if_neg c1]; rfl)⟩
  · refine z_iconst hz 1 dX10_takes_8 ki_1 ?_
    refine z_goto hz 13 dX10_takes_9 (by decide) ?_
    refine z_istore_n (lv' := [(0, .ref (ad 99)), (1, .int cc9), (2, .int 1)]) hz [1, 2, 0] dX10_takes_13 rfl (by decide) rfl ?_
    refine z_aload_n hz dX10_takes_14 0 rfl rfl ?_
    refine z_dup hz dX10_takes_15 rfl ?_
    refine z_get (C := RX10) (T := TX10) (N := 29) hz in_X10 (zAt.mt 0 0 rfl rfl) rfl 6 (by decide) q1935 (fun _ h9 => h9) rfl dX10_takes_16 ?_
    refine z_iload_n hz dX10_takes_19 2 rfl rfl ?_
    refine z_if_eqF hz 27 dX10_takes_20 (by decide) (by decide) ?_
    refine z_iconst hz 1 dX10_takes_23 ki_1 ?_
    refine z_goto hz 28 dX10_takes_24 (by decide) ?_
    refine z_iaddN hz rfl kn_1 dX10_takes_28 ?_
    refine z_put (C := RX10) (T := TX10) (N := 29) hz in_X10 tyX10 tyX10_ok nmX10 0 0 rfl rfl rfl 6 (by decide) q1935 (fun _ h9 => h9) rfl rfl rfl (Nat.le_of_ble_eq_true rfl) dX10_takes_29 ?_
    refine z_bs (bs2 := [zO (ad 99) 10 (mFs ad (upd (upd (upd (upd (upd iv 8 (nI u)) 7 (nI d)) 9 (zB (sp.2.1 = true))) 11 (nI sp.2.2.2)) 6 (nI (sp.1 + 1)))), zI (G.2.2.1 0) (ad 0) 602 g]) rfl ?_
    refine z_iload_n hz dX10_takes_32 2 rfl rfl ?_
    exact z_zret hQ hz hr hlk (by decide) dX10_takes_33 ⟨(by rw [zB_t c1]), (by rw [show tkF g n0 cc9 sp = advF sp from if_pos c1]; rfl)⟩
set_option maxHeartbeats 400000 in
theorem mM_codes {G : zG} (ad : Nat → Nat) (iv : Nat → Int32) (u d : Nat) (sp : zP) (v : Int32) (h60 : sp.2.2.2 < 60) : zMet G yX10_codes (ws_ yX10_codes cX10_codes 2 none) (zRm 0 0 0 0) [.ref (ad 99), .int v] [zO (ad 99) 10 (mFs ad (upd (upd (upd (upd (upd iv 8 (nI u)) 7 (nI d)) 6 (nI sp.1)) 9 (zB (sp.2.1 = true))) 11 (nI sp.2.2.2))), zI (G.2.2.1 0) (ad 10) 60 sp.2.2.1] (fun v9 b9 => v9 = none ∧ b9 = [zO (ad 99) 10 (mFs ad (upd (upd (upd (upd (upd iv 8 (nI u)) 7 (nI d)) 6 (nI ((emF v sp).1))) 9 (zB ((emF v sp).2.1 = true))) 11 (nI ((emF v sp).2.2.2)))), zI (G.2.2.1 0) (ad 10) 60 ((emF v sp).2.2.1)]) := by
  refine zMet.of (by decide +kernel) (Nat.le_of_ble_eq_true rfl) ?_
  intro p e s m args below meth c A hz hA hr hlk hnm9 Q hQ
  refine z_lv (lv' := [(0, .ref (ad 99)), (1, .int v)]) [0, 1] rfl ?_
  refine z_aload_n hz dX10_codes_0 0 rfl rfl ?_
  refine z_get (C := RX10) (T := TX10) (N := 29) hz in_X10 (zAt.mt 0 0 rfl rfl) rfl 9 (by decide) q1938 (fun _ h9 => h9) rfl dX10_codes_1 ?_
  refine z_ifB_ne hz 27 dX10_codes_4 (by decide) (fun c1 => ?_) (fun c1 => ?_)
  · exact z_vret hQ hz hr hlk dX10_codes_27 ⟨rfl, (by rw [show emF v sp = sp from if_pos c1])⟩
  · refine z_aload_n hz dX10_codes_7 0 rfl rfl ?_
    refine z_get (C := RX10) (T := TX10) (N := 29) hz in_X10 (zAt.mt 0 0 rfl rfl) rfl 10 (by decide) q1939 (fun _ h9 => h9) rfl dX10_codes_8 ?_
    refine z_aload_n hz dX10_codes_11 0 rfl rfl ?_
    refine z_get (C := RX10) (T := TX10) (N := 29) hz in_X10 (zAt.mt 0 0 rfl rfl) rfl 11 (by decide) q1940 (fun _ h9 => h9) rfl dX10_codes_12 ?_
    refine z_iload_n hz dX10_codes_15 1 rfl rfl ?_
    refine z_iast hz 1 0 rfl rfl rfl (by omega) (by decide) dX10_codes_16 ?_
    refine z_bs (bs2 := [zO (ad 99) 10 (mFs ad (upd (upd (upd (upd (upd iv 8 (nI u)) 7 (nI d)) 6 (nI sp.1)) 9 (zB (sp.2.1 = true))) 11 (nI sp.2.2.2))), zI (G.2.2.1 0) (ad 10) 60 (upd sp.2.2.1 sp.2.2.2 v)]) rfl ?_
    refine z_aload_n hz dX10_codes_17 0 rfl rfl ?_
    refine z_dup hz dX10_codes_18 rfl ?_
    refine z_get (C := RX10) (T := TX10) (N := 29) hz in_X10 (zAt.mt 0 0 rfl rfl) rfl 11 (by decide) q1940 (fun _ h9 => h9) rfl dX10_codes_19 ?_
    refine z_iconst hz 1 dX10_codes_22 ki_1 ?_
    refine z_iaddN hz rfl kn_1 dX10_codes_23 ?_
    refine z_put (C := RX10) (T := TX10) (N := 29) hz in_X10 tyX10 tyX10_ok nmX10 0 0 rfl rfl rfl 11 (by decide) q1940 (fun _ h9 => h9) rfl rfl rfl (Nat.le_of_ble_eq_true rfl) dX10_codes_24 ?_
    refine z_bs (bs2 := [zO (ad 99) 10 (mFs ad (upd (upd (upd (upd (upd iv 8 (nI u)) 7 (nI d)) 6 (nI sp.1)) 9 (zB (sp.2.1 = true))) 11 (nI (sp.2.2.2 + 1)))), zI (G.2.2.1 0) (ad 10) 60 (upd sp.2.2.1 sp.2.2.2 v)]) rfl ?_
    exact z_vret hQ hz hr hlk dX10_codes_27 ⟨rfl, (by rw [show emF v sp = (sp.1, sp.2.1, upd sp.2.2.1 sp.2.2.2 v, sp.2.2.2 + 1) from if_neg c1])⟩
set_option maxHeartbeats 400000 in
theorem mM_nameOf {G : zG} (ad : Nat → Nat) (iv : Nat → Int32) (u d : Nat) (sp : zP) (hu : u < 4) (cc9 : Int32) : zRd G yX10_nameOf (ws_ yX10_nameOf cX10_nameOf 4 (some .int)) (zRm 4 0 0 130) [.ref (ad 99), .int cc9] [(ad 99, .inr (10, mFs ad (upd (upd (upd (upd (upd iv 8 (nI u)) 7 (nI d)) 6 (nI sp.1)) 9 (zB (sp.2.1 = true))) 11 (nI sp.2.2.2)))), (ad 5, .inl (G.2.2.1 6, 4, .inr (.inr (.inr (.inr (nmdF G))))))] (fun v9 => v9 = some (.int (nmF u cc9 (zLen.getD u 0)))) := by
  refine zRd.of (by decide +kernel) (Nat.le_of_ble_eq_true rfl) ?_
  intro p e s m args below meth c hz hP hr hlk Q hQ
  refine z_lv (lv' := [(0, .ref (ad 99)), (1, .int cc9)]) [0, 1] rfl ?_
  have hlb := zLen_b u (by omega)
  refine z_iconst hz (-1) dX10_nameOf_0 ki_m1 ?_
  refine z_istore_n (lv' := [(0, .ref (ad 99)), (1, .int cc9), (2, .int (-1))]) hz [1, 2, 0] dX10_nameOf_1 rfl (by decide) rfl ?_
  refine z_iconst hz 0 dX10_nameOf_2 ki_0 ?_
  refine z_istore_n (lv' := [(0, .ref (ad 99)), (1, .int cc9), (2, .int (-1)), (3, .int 0)]) hz [1, 2, 3, 0] dX10_nameOf_3 rfl (by decide) rfl ?_
  have lp_4 : ∀ (n9 : Nat) (k : Nat) (x : Int32), k ≤ zLen.getD u 0 → x = nmF u cc9 k → zLen.getD u 0 - k < n9 → zW p G.1 e (zRm 4 0 0 130) s m args below meth c 4 Q 0 0 (zΨ s) 4 [(0, .ref (ad 99)), (1, .int cc9), (2, .int x), (3, .int (nI k))] [] := by
    intro n9
    induction n9 with
    | zero => intro _ _ _ _ hm; exact absurd hm (Nat.not_lt_zero _)
    | succ n9 ih_4 =>
      intro k x hk hx hm_4
      refine z_iload_n hz dX10_nameOf_4 3 rfl rfl ?_
      refine z_aload_n hz dX10_nameOf_5 0 rfl rfl ?_
      refine z_get (C := RX10) (T := TX10) (N := 29) hz in_X10 (zAt.rd hP 0 rfl) rfl 5 (by decide) q1934 (fun _ h9 => h9) rfl dX10_nameOf_6 ?_
      refine z_aload_n hz dX10_nameOf_9 0 rfl rfl ?_
      refine z_get (C := RX10) (T := TX10) (N := 29) hz in_X10 (zAt.rd hP 0 rfl) rfl 8 (by decide) q1937 (fun _ h9 => h9) rfl dX10_nameOf_10 ?_
      refine z_aaldS hz (zAt.rd hP 1 rfl) rfl (by omega) (by decide) dX10_nameOf_13 ?_
      refine z_st (st2 := [.ref (G.2.2.2 (1 + u)), .int (nI k)]) rfl ?_
      refine z_callRD (st2 := [.int (nI (zLen.getD u 0)), .int (nI k)]) hz zKp.rd (zk_V hz (rm := (zRm 1 0 0 30)) (As := []) (rest := [.int (nI k)]) 0 q2194 q899 q900 q107 q901 (by decide +kernel) ⟨Nat.le_of_ble_eq_true rfl, Nat.le_of_ble_eq_true rfl⟩ ⟨Nat.le_of_ble_eq_true rfl, Nat.le_of_ble_eq_true rfl⟩ (z_srecv hz zSp.rd (by omega)) rfl rfl (Nat.le_of_ble_eq_true rfl) dX10_nameOf_14) (mJ_length u (by omega)) (fun _ _ _ => zP0) rfl ?_
      refine z_icmpN_ge hz rfl rfl (by omega) (by omega) 49 dX10_nameOf_17 (by decide) (fun c1 => ?_) (fun c1 => ?_)
      · refine z_iload_n hz dX10_nameOf_49 2 rfl rfl ?_
        exact zr_iret hQ hz hr hlk dX10_nameOf_50 (by rw [hx, show k = zLen.getD u 0 by omega])
      · refine z_aload_n hz dX10_nameOf_20 0 rfl rfl ?_
        refine z_get (C := RX10) (T := TX10) (N := 29) hz in_X10 (zAt.rd hP 0 rfl) rfl 5 (by decide) q1934 (fun _ h9 => h9) rfl dX10_nameOf_21 ?_
        refine z_aload_n hz dX10_nameOf_24 0 rfl rfl ?_
        refine z_get (C := RX10) (T := TX10) (N := 29) hz in_X10 (zAt.rd hP 0 rfl) rfl 8 (by decide) q1937 (fun _ h9 => h9) rfl dX10_nameOf_25 ?_
        refine z_aaldS hz (zAt.rd hP 1 rfl) rfl (by omega) (by decide) dX10_nameOf_28 ?_
        refine z_st (st2 := [.ref (G.2.2.2 (1 + u))]) rfl ?_
        refine z_iload_n hz dX10_nameOf_29 3 rfl rfl ?_
        refine z_callRD (st2 := [.int (chS u k)]) hz zKp.rd (zk_V hz (rm := (zRm 3 0 0 90)) (As := [.int (nI k)]) (rest := []) 1 q2195 q2196 q2197 q107 q2198 (by decide +kernel) ⟨Nat.le_of_ble_eq_true rfl, Nat.le_of_ble_eq_true rfl⟩ ⟨Nat.le_of_ble_eq_true rfl, Nat.le_of_ble_eq_true rfl⟩ (z_srecv hz zSp.rd (by omega)) rfl rfl (Nat.le_of_ble_eq_true rfl) dX10_nameOf_30) (mJ_charAt u (by omega) k (by omega)) (fun _ _ _ => zP0) rfl ?_
        refine z_iload_n hz dX10_nameOf_33 1 rfl rfl ?_
        refine z_icmp_ne hz 41 dX10_nameOf_34 (by decide) (fun c2 => ?_) (fun c2 => ?_)
        · refine z_iload_n hz dX10_nameOf_41 2 rfl rfl ?_
          refine z_istore_n (lv' := [(0, .ref (ad 99)), (1, .int cc9), (2, .int x), (3, .int (nI k))]) hz [1, 2, 0, 3] dX10_nameOf_42 rfl (by decide) rfl ?_
          refine z_iinc (lv' := [(0, .ref (ad 99)), (1, .int cc9), (2, .int x), (3, .int (nI (k + 1)))]) hz (nI (k + 1)) 3 [1, 2, 3, 0] dX10_nameOf_43 rfl (nI_1 _) (by decide) rfl ?_
          refine z_goto hz 4 dX10_nameOf_46 (by decide) ?_
          exact ih_4 (k + 1) x (by omega) (by simp only [nmF]; rw [if_neg c2, ← hx]) (by omega)
        · refine z_iload_n hz dX10_nameOf_37 3 rfl rfl ?_
          refine z_goto hz 42 dX10_nameOf_38 (by decide) ?_
          refine z_istore_n (lv' := [(0, .ref (ad 99)), (1, .int cc9), (2, .int (nI k)), (3, .int (nI k))]) hz [1, 2, 0, 3] dX10_nameOf_42 rfl (by decide) rfl ?_
          refine z_iinc (lv' := [(0, .ref (ad 99)), (1, .int cc9), (2, .int (nI k)), (3, .int (nI (k + 1)))]) hz (nI (k + 1)) 3 [1, 2, 3, 0] dX10_nameOf_43 rfl (nI_1 _) (by decide) rfl ?_
          refine z_goto hz 4 dX10_nameOf_46 (by decide) ?_
          exact ih_4 (k + 1) (nI k) (by omega) (by simp only [nmF]; rw [if_pos c2]) (by omega)
  exact lp_4 ((zLen.getD u 0 - 0) + 1) 0 (-1) (Nat.zero_le _) rfl (Nat.lt_succ_self _)
set_option maxHeartbeats 2000000 in
theorem mM_either {G : zG} (ad : Nat → Nat) (iv g : Nat → Int32) (n0 u d : Nat) (sp : zP) (hn6 : g 6 = nI n0) (hn50 : n0 ≤ 50) (hu : u < 4) (f9 lo9 : Nat) (hf9 : 1 ≤ f9) (hlo9 : 60 ≤ lo9) (sub : zP → zP) (hgd : gdP n0 sub) (hone : ∀ sp : zP, sp.1 ≤ n0 → sp.2.2.2 ≤ sp.1 → zMet G yX10_both (ws_ yX10_both cX10_both 1 none) (zRm f9 0 0 lo9) [.ref (ad 99)] [zO (ad 99) 10 (mFs ad (upd (upd (upd (upd (upd iv 8 (nI u)) 7 (nI d)) 6 (nI sp.1)) 9 (zB (sp.2.1 = true))) 11 (nI sp.2.2.2))), zI (G.2.2.1 0) (ad 0) 602 g, zI (G.2.2.1 0) (ad 10) 60 sp.2.2.1, zQr (G.2.2.1 6) (ad 5) 4 (nmdF G)] (fun v9 b9 => v9 = none ∧ b9 = [zO (ad 99) 10 (mFs ad (upd (upd (upd (upd (upd iv 8 (nI u)) 7 (nI d)) 6 (nI ((sub sp).1))) 9 (zB ((sub sp).2.1 = true))) 11 (nI ((sub sp).2.2.2)))), zI (G.2.2.1 0) (ad 0) 602 g, zI (G.2.2.1 0) (ad 10) 60 ((sub sp).2.2.1), zQr (G.2.2.1 6) (ad 5) 4 (nmdF G)])) (h1 : sp.1 ≤ n0) (h2 : sp.2.2.2 ≤ sp.1) : zMet G yX10_either (ws_ yX10_either cX10_either 1 none) (zRm (f9 + 1) 0 0 (lo9 + 60)) [.ref (ad 99)] [zO (ad 99) 10 (mFs ad (upd (upd (upd (upd (upd iv 8 (nI u)) 7 (nI d)) 6 (nI sp.1)) 9 (zB (sp.2.1 = true))) 11 (nI sp.2.2.2))), zI (G.2.2.1 0) (ad 0) 602 g, zI (G.2.2.1 0) (ad 10) 60 sp.2.2.1, zQr (G.2.2.1 6) (ad 5) 4 (nmdF G)] (fun v9 b9 => v9 = none ∧ b9 = [zO (ad 99) 10 (mFs ad (upd (upd (upd (upd (upd iv 8 (nI u)) 7 (nI d)) 6 (nI ((lpF g n0 [(124, 20000)] sub 51 (sub sp)).1))) 9 (zB ((lpF g n0 [(124, 20000)] sub 51 (sub sp)).2.1 = true))) 11 (nI ((lpF g n0 [(124, 20000)] sub 51 (sub sp)).2.2.2)))), zI (G.2.2.1 0) (ad 0) 602 g, zI (G.2.2.1 0) (ad 10) 60 ((lpF g n0 [(124, 20000)] sub 51 (sub sp)).2.2.1), zQr (G.2.2.1 6) (ad 5) 4 (nmdF G)]) := by
  refine zMet.of (by decide +kernel) (Nat.le_of_ble_eq_true rfl) ?_
  intro p e s m args below meth c A hz hA hr hlk hnm9 Q hQ
  refine z_lv (lv' := [(0, .ref (ad 99))]) [0] rfl ?_
  have hs := hgd sp h1 h2
  refine z_aload_n hz dX10_either_0 0 rfl rfl ?_
  refine z_callD (bs2 := [zO (ad 99) 10 (mFs ad (upd (upd (upd (upd (upd iv 8 (nI u)) 7 (nI d)) 6 (nI ((sub sp).1))) 9 (zB ((sub sp).2.1 = true))) 11 (nI ((sub sp).2.2.2)))), zI (G.2.2.1 0) (ad 0) 602 g, zI (G.2.2.1 0) (ad 10) 60 ((sub sp).2.2.1), zQr (G.2.2.1 6) (ad 5) 4 (nmdF G)]) (st2 := []) hz hA (zk_V hz (rm := (zRm f9 0 0 lo9)) (As := []) (rest := []) 0 q2158 q2160 qs48 q95 q2161 (by decide +kernel) ⟨by dsimp only [zRm]; omega, by dsimp only [zRm]; omega⟩ ⟨Nat.le_of_ble_eq_true rfl, Nat.le_of_ble_eq_true rfl⟩ (zRecv (q := (RX10, TX10, 29)) hz (zAt.mt 0 0 rfl rfl) rfl) rfl rfl (Nat.le_of_ble_eq_true rfl) dX10_either_1) (hone sp h1 h2) [0, 1, 2, 3] rfl (by decide) rfl rfl ?_
  have lp_4 : ∀ (n9 : Nat) (f : Nat) (t : zP), t.1 ≤ n0 → t.2.2.2 ≤ t.1 → n0 - t.1 < f → lpF g n0 [(124, 20000)] sub 51 (sub sp) = lpF g n0 [(124, 20000)] sub f t → f < n9 → zW p G.1 e (zRm (f9 + 1) 0 0 (lo9 + 60)) s m args below meth c 1 Q 0 0 (zΦ G A s [zO (ad 99) 10 (mFs ad (upd (upd (upd (upd (upd iv 8 (nI u)) 7 (nI d)) 6 (nI t.1)) 9 (zB (t.2.1 = true))) 11 (nI t.2.2.2))), zI (G.2.2.1 0) (ad 0) 602 g, zI (G.2.2.1 0) (ad 10) 60 t.2.2.1, zQr (G.2.2.1 6) (ad 5) 4 (nmdF G)]) 4 [(0, .ref (ad 99))] [] := by
    intro n9
    induction n9 with
    | zero => intro _ _ _ _ _ _ hm; exact absurd hm (Nat.not_lt_zero _)
    | succ n9 ih_4 =>
      intro f t h1t h2t hf hE hm_4
      refine z_aload_n hz dX10_either_4 0 rfl rfl ?_
      refine z_bipush hz 124 dX10_either_5 kb_124 ?_
      refine z_callD (bs2 := [zO (ad 99) 10 (mFs ad (upd (upd (upd (upd (upd iv 8 (nI u)) 7 (nI d)) 6 (nI ((tkF g n0 124 t).1))) 9 (zB ((tkF g n0 124 t).2.1 = true))) 11 (nI ((tkF g n0 124 t).2.2.2)))), zI (G.2.2.1 0) (ad 0) 602 g, zI (G.2.2.1 0) (ad 10) 60 t.2.2.1, zQr (G.2.2.1 6) (ad 5) 4 (nmdF G)]) (st2 := [.int (zB (hereF g n0 t = 124))]) hz hA (zk_V hz (rm := (zRm 1 0 0 30)) (As := [.int 124]) (rest := []) 1 q2186 q2188 qs55 q95 q2189 (by decide +kernel) ⟨by dsimp only [zRm]; omega, by dsimp only [zRm]; omega⟩ ⟨Nat.le_of_ble_eq_true rfl, Nat.le_of_ble_eq_true rfl⟩ (zRecv (q := (RX10, TX10, 29)) hz (zAt.mt 0 0 rfl rfl) rfl) rfl rfl (Nat.le_of_ble_eq_true rfl) dX10_either_7) (mM_takes ad iv g n0 u d t hn6 hn50 hu h1t 124) [0, 1] rfl (by decide) rfl rfl ?_
      refine z_ifB_eq hz 27 dX10_either_10 (by decide) (fun c1 => ?_) (fun c1 => ?_)
      · rw [show tkF g n0 124 t = t from if_neg c1]
        refine z_bs (bs2 := [zO (ad 99) 10 (mFs ad (upd (upd (upd (upd (upd iv 8 (nI u)) 7 (nI d)) 6 (nI t.1)) 9 (zB (t.2.1 = true))) 11 (nI t.2.2.2))), zI (G.2.2.1 0) (ad 0) 602 g, zI (G.2.2.1 0) (ad 10) 60 t.2.2.1, zQr (G.2.2.1 6) (ad 5) 4 (nmdF G)]) rfl ?_
        have hend : lpF g n0 [(124, 20000)] sub 51 (sub sp) = t := by rw [hE]; exact lp_end (by simp only [sgL]; rw [if_neg c1]) _
        exact z_vret hQ hz hr hlk dX10_either_27 ⟨rfl, (by rw [hend])⟩
      · rw [show tkF g n0 124 t = advF t from if_pos c1]
        refine z_bs (bs2 := [zO (ad 99) 10 (mFs ad (upd (upd (upd (upd (upd iv 8 (nI u)) 7 (nI d)) 6 (nI ((advF t).1))) 9 (zB ((advF t).2.1 = true))) 11 (nI ((advF t).2.2.2)))), zI (G.2.2.1 0) (ad 0) 602 g, zI (G.2.2.1 0) (ad 10) 60 ((advF t).2.2.1), zQr (G.2.2.1 6) (ad 5) 4 (nmdF G)]) rfl ?_
        have hv : sgL [(124, 20000)] (hereF g n0 t) = 20000 := by simp only [sgL]; rw [if_pos c1]
        have hx : ¬ sgL [(124, 20000)] (hereF g n0 t) = 0 := by rw [hv]; decide
        have hb := gd_step (g := g) (v := 20000) hgd (L := [(124, 20000)]) (by decide) h1t h2t hx
        have hq := hgd (advF t) (show t.1 + 1 ≤ n0 by have := hb.1; omega) (show t.2.2.2 ≤ t.1 + 1 by omega)
        refine z_aload_n hz dX10_either_13 0 rfl rfl ?_
        refine z_callD (bs2 := [zO (ad 99) 10 (mFs ad (upd (upd (upd (upd (upd iv 8 (nI u)) 7 (nI d)) 6 (nI ((sub (advF t)).1))) 9 (zB ((sub (advF t)).2.1 = true))) 11 (nI ((sub (advF t)).2.2.2)))), zI (G.2.2.1 0) (ad 0) 602 g, zI (G.2.2.1 0) (ad 10) 60 ((sub (advF t)).2.2.1), zQr (G.2.2.1 6) (ad 5) 4 (nmdF G)]) (st2 := []) hz hA (zk_V hz (rm := (zRm f9 0 0 lo9)) (As := []) (rest := []) 0 q2158 q2160 qs48 q95 q2161 (by decide +kernel) ⟨by dsimp only [zRm]; omega, by dsimp only [zRm]; omega⟩ ⟨Nat.le_of_ble_eq_true rfl, Nat.le_of_ble_eq_true rfl⟩ (zRecv (q := (RX10, TX10, 29)) hz (zAt.mt 0 0 rfl rfl) rfl) rfl rfl (Nat.le_of_ble_eq_true rfl) dX10_either_14) (hone (advF t) (show t.1 + 1 ≤ n0 by have := hb.1; omega) (show t.2.2.2 ≤ t.1 + 1 by omega)) [0, 1, 2, 3] rfl (by decide) rfl rfl ?_
        refine z_aload_n hz dX10_either_17 0 rfl rfl ?_
        refine z_sipush hz 20000 dX10_either_18 ks_20000 ?_
        refine z_callD (bs2 := [zO (ad 99) 10 (mFs ad (upd (upd (upd (upd (upd iv 8 (nI u)) 7 (nI d)) 6 (nI ((emF 20000 (sub (advF t))).1))) 9 (zB ((emF 20000 (sub (advF t))).2.1 = true))) 11 (nI ((emF 20000 (sub (advF t))).2.2.2)))), zI (G.2.2.1 0) (ad 0) 602 g, zI (G.2.2.1 0) (ad 10) 60 ((emF 20000 (sub (advF t))).2.2.1), zQr (G.2.2.1 6) (ad 5) 4 (nmdF G)]) (st2 := []) hz hA (zk_V hz (rm := (zRm 0 0 0 0)) (As := [.int 20000]) (rest := []) 1 q2182 q2184 qs54 q95 q2185 (by decide +kernel) ⟨by dsimp only [zRm]; omega, by dsimp only [zRm]; omega⟩ ⟨Nat.le_of_ble_eq_true rfl, Nat.le_of_ble_eq_true rfl⟩ (zRecv (q := (RX10, TX10, 29)) hz (zAt.mt 0 0 rfl rfl) rfl) rfl rfl (Nat.le_of_ble_eq_true rfl) dX10_either_21) (mM_codes ad iv u d (sub (advF t)) 20000 (by have := hb.2.2.2.2; have := hq.2.1; omega)) [0, 2] rfl (by decide) rfl rfl ?_
        refine z_bs (bs2 := [zO (ad 99) 10 (mFs ad (upd (upd (upd (upd (upd iv 8 (nI u)) 7 (nI d)) 6 (nI ((emF 20000 (sub (advF t))).1))) 9 (zB ((emF 20000 (sub (advF t))).2.1 = true))) 11 (nI ((emF 20000 (sub (advF t))).2.2.2)))), zI (G.2.2.1 0) (ad 0) 602 g, zI (G.2.2.1 0) (ad 10) 60 ((emF 20000 (sub (advF t))).2.2.1), zQr (G.2.2.1 6) (ad 5) 4 (nmdF G)]) rfl ?_
        refine z_goto hz 4 dX10_either_24 (by decide) ?_
        exact ih_4 (f - 1) (emF 20000 (sub (advF t))) hb.2.2.1 (by have := hb.2.2.2.1; omega) (by have := hb.2.1; omega) (by rw [hE, show f = (f - 1) + 1 by omega]; simp only [lpF]; rw [if_neg hx, hv]; rfl) (by omega)
  exact lp_4 ((51) + 1) 51 (sub sp) hs.2.1 (by have := hs.2.2; have := hs.1; omega) (by omega) rfl (Nat.lt_succ_self _)
set_option maxHeartbeats 2000000 in
theorem mM_both {G : zG} (ad : Nat → Nat) (iv g : Nat → Int32) (n0 u d : Nat) (sp : zP) (hn6 : g 6 = nI n0) (hn50 : n0 ≤ 50) (hu : u < 4) (f9 lo9 : Nat) (hf9 : 1 ≤ f9) (hlo9 : 60 ≤ lo9) (sub : zP → zP) (hgd : gdP n0 sub) (hone : ∀ sp : zP, sp.1 ≤ n0 → sp.2.2.2 ≤ sp.1 → zMet G yX10_compared (ws_ yX10_compared cX10_compared 2 none) (zRm f9 0 0 lo9) [.ref (ad 99)] [zO (ad 99) 10 (mFs ad (upd (upd (upd (upd (upd iv 8 (nI u)) 7 (nI d)) 6 (nI sp.1)) 9 (zB (sp.2.1 = true))) 11 (nI sp.2.2.2))), zI (G.2.2.1 0) (ad 0) 602 g, zI (G.2.2.1 0) (ad 10) 60 sp.2.2.1, zQr (G.2.2.1 6) (ad 5) 4 (nmdF G)] (fun v9 b9 => v9 = none ∧ b9 = [zO (ad 99) 10 (mFs ad (upd (upd (upd (upd (upd iv 8 (nI u)) 7 (nI d)) 6 (nI ((sub sp).1))) 9 (zB ((sub sp).2.1 = true))) 11 (nI ((sub sp).2.2.2)))), zI (G.2.2.1 0) (ad 0) 602 g, zI (G.2.2.1 0) (ad 10) 60 ((sub sp).2.2.1), zQr (G.2.2.1 6) (ad 5) 4 (nmdF G)])) (h1 : sp.1 ≤ n0) (h2 : sp.2.2.2 ≤ sp.1) : zMet G yX10_both (ws_ yX10_both cX10_both 1 none) (zRm (f9 + 1) 0 0 (lo9 + 60)) [.ref (ad 99)] [zO (ad 99) 10 (mFs ad (upd (upd (upd (upd (upd iv 8 (nI u)) 7 (nI d)) 6 (nI sp.1)) 9 (zB (sp.2.1 = true))) 11 (nI sp.2.2.2))), zI (G.2.2.1 0) (ad 0) 602 g, zI (G.2.2.1 0) (ad 10) 60 sp.2.2.1, zQr (G.2.2.1 6) (ad 5) 4 (nmdF G)] (fun v9 b9 => v9 = none ∧ b9 = [zO (ad 99) 10 (mFs ad (upd (upd (upd (upd (upd iv 8 (nI u)) 7 (nI d)) 6 (nI ((lpF g n0 [(38, 20001)] sub 51 (sub sp)).1))) 9 (zB ((lpF g n0 [(38, 20001)] sub 51 (sub sp)).2.1 = true))) 11 (nI ((lpF g n0 [(38, 20001)] sub 51 (sub sp)).2.2.2)))), zI (G.2.2.1 0) (ad 0) 602 g, zI (G.2.2.1 0) (ad 10) 60 ((lpF g n0 [(38, 20001)] sub 51 (sub sp)).2.2.1), zQr (G.2.2.1 6) (ad 5) 4 (nmdF G)]) := by
  refine zMet.of (by decide +kernel) (Nat.le_of_ble_eq_true rfl) ?_
  intro p e s m args below meth c A hz hA hr hlk hnm9 Q hQ
  refine z_lv (lv' := [(0, .ref (ad 99))]) [0] rfl ?_
  have hs := hgd sp h1 h2
  refine z_aload_n hz dX10_both_0 0 rfl rfl ?_
  refine z_callD (bs2 := [zO (ad 99) 10 (mFs ad (upd (upd (upd (upd (upd iv 8 (nI u)) 7 (nI d)) 6 (nI ((sub sp).1))) 9 (zB ((sub sp).2.1 = true))) 11 (nI ((sub sp).2.2.2)))), zI (G.2.2.1 0) (ad 0) 602 g, zI (G.2.2.1 0) (ad 10) 60 ((sub sp).2.2.1), zQr (G.2.2.1 6) (ad 5) 4 (nmdF G)]) (st2 := []) hz hA (zk_V hz (rm := (zRm f9 0 0 lo9)) (As := []) (rest := []) 0 q2162 q2164 qs49 q95 q2165 (by decide +kernel) ⟨by dsimp only [zRm]; omega, by dsimp only [zRm]; omega⟩ ⟨Nat.le_of_ble_eq_true rfl, Nat.le_of_ble_eq_true rfl⟩ (zRecv (q := (RX10, TX10, 29)) hz (zAt.mt 0 0 rfl rfl) rfl) rfl rfl (Nat.le_of_ble_eq_true rfl) dX10_both_1) (hone sp h1 h2) [0, 1, 2, 3] rfl (by decide) rfl rfl ?_
  have lp_4 : ∀ (n9 : Nat) (f : Nat) (t : zP), t.1 ≤ n0 → t.2.2.2 ≤ t.1 → n0 - t.1 < f → lpF g n0 [(38, 20001)] sub 51 (sub sp) = lpF g n0 [(38, 20001)] sub f t → f < n9 → zW p G.1 e (zRm (f9 + 1) 0 0 (lo9 + 60)) s m args below meth c 1 Q 0 0 (zΦ G A s [zO (ad 99) 10 (mFs ad (upd (upd (upd (upd (upd iv 8 (nI u)) 7 (nI d)) 6 (nI t.1)) 9 (zB (t.2.1 = true))) 11 (nI t.2.2.2))), zI (G.2.2.1 0) (ad 0) 602 g, zI (G.2.2.1 0) (ad 10) 60 t.2.2.1, zQr (G.2.2.1 6) (ad 5) 4 (nmdF G)]) 4 [(0, .ref (ad 99))] [] := by
    intro n9
    induction n9 with
    | zero => intro _ _ _ _ _ _ hm; exact absurd hm (Nat.not_lt_zero _)
    | succ n9 ih_4 =>
      intro f t h1t h2t hf hE hm_4
      refine z_aload_n hz dX10_both_4 0 rfl rfl ?_
      refine z_bipush hz 38 dX10_both_5 kb_38 ?_
      refine z_callD (bs2 := [zO (ad 99) 10 (mFs ad (upd (upd (upd (upd (upd iv 8 (nI u)) 7 (nI d)) 6 (nI ((tkF g n0 38 t).1))) 9 (zB ((tkF g n0 38 t).2.1 = true))) 11 (nI ((tkF g n0 38 t).2.2.2)))), zI (G.2.2.1 0) (ad 0) 602 g, zI (G.2.2.1 0) (ad 10) 60 t.2.2.1, zQr (G.2.2.1 6) (ad 5) 4 (nmdF G)]) (st2 := [.int (zB (hereF g n0 t = 38))]) hz hA (zk_V hz (rm := (zRm 1 0 0 30)) (As := [.int 38]) (rest := []) 1 q2186 q2188 qs55 q95 q2189 (by decide +kernel) ⟨by dsimp only [zRm]; omega, by dsimp only [zRm]; omega⟩ ⟨Nat.le_of_ble_eq_true rfl, Nat.le_of_ble_eq_true rfl⟩ (zRecv (q := (RX10, TX10, 29)) hz (zAt.mt 0 0 rfl rfl) rfl) rfl rfl (Nat.le_of_ble_eq_true rfl) dX10_both_7) (mM_takes ad iv g n0 u d t hn6 hn50 hu h1t 38) [0, 1] rfl (by decide) rfl rfl ?_
      refine z_ifB_eq hz 27 dX10_both_10 (by decide) (fun c1 => ?_) (fun c1 => ?_)
      · rw [show tkF g n0 38 t = t from if_neg c1]
        refine z_bs (bs2 := [zO (ad 99) 10 (mFs ad (upd (upd (upd (upd (upd iv 8 (nI u)) 7 (nI d)) 6 (nI t.1)) 9 (zB (t.2.1 = true))) 11 (nI t.2.2.2))), zI (G.2.2.1 0) (ad 0) 602 g, zI (G.2.2.1 0) (ad 10) 60 t.2.2.1, zQr (G.2.2.1 6) (ad 5) 4 (nmdF G)]) rfl ?_
        have hend : lpF g n0 [(38, 20001)] sub 51 (sub sp) = t := by rw [hE]; exact lp_end (by simp only [sgL]; rw [if_neg c1]) _
        exact z_vret hQ hz hr hlk dX10_both_27 ⟨rfl, (by rw [hend])⟩
      · rw [show tkF g n0 38 t = advF t from if_pos c1]
        refine z_bs (bs2 := [zO (ad 99) 10 (mFs ad (upd (upd (upd (upd (upd iv 8 (nI u)) 7 (nI d)) 6 (nI ((advF t).1))) 9 (zB ((advF t).2.1 = true))) 11 (nI ((advF t).2.2.2)))), zI (G.2.2.1 0) (ad 0) 602 g, zI (G.2.2.1 0) (ad 10) 60 ((advF t).2.2.1), zQr (G.2.2.1 6) (ad 5) 4 (nmdF G)]) rfl ?_
        have hv : sgL [(38, 20001)] (hereF g n0 t) = 20001 := by simp only [sgL]; rw [if_pos c1]
        have hx : ¬ sgL [(38, 20001)] (hereF g n0 t) = 0 := by rw [hv]; decide
        have hb := gd_step (g := g) (v := 20001) hgd (L := [(38, 20001)]) (by decide) h1t h2t hx
        have hq := hgd (advF t) (show t.1 + 1 ≤ n0 by have := hb.1; omega) (show t.2.2.2 ≤ t.1 + 1 by omega)
        refine z_aload_n hz dX10_both_13 0 rfl rfl ?_
        refine z_callD (bs2 := [zO (ad 99) 10 (mFs ad (upd (upd (upd (upd (upd iv 8 (nI u)) 7 (nI d)) 6 (nI ((sub (advF t)).1))) 9 (zB ((sub (advF t)).2.1 = true))) 11 (nI ((sub (advF t)).2.2.2)))), zI (G.2.2.1 0) (ad 0) 602 g, zI (G.2.2.1 0) (ad 10) 60 ((sub (advF t)).2.2.1), zQr (G.2.2.1 6) (ad 5) 4 (nmdF G)]) (st2 := []) hz hA (zk_V hz (rm := (zRm f9 0 0 lo9)) (As := []) (rest := []) 0 q2162 q2164 qs49 q95 q2165 (by decide +kernel) ⟨by dsimp only [zRm]; omega, by dsimp only [zRm]; omega⟩ ⟨Nat.le_of_ble_eq_true rfl, Nat.le_of_ble_eq_true rfl⟩ (zRecv (q := (RX10, TX10, 29)) hz (zAt.mt 0 0 rfl rfl) rfl) rfl rfl (Nat.le_of_ble_eq_true rfl) dX10_both_14) (hone (advF t) (show t.1 + 1 ≤ n0 by have := hb.1; omega) (show t.2.2.2 ≤ t.1 + 1 by omega)) [0, 1, 2, 3] rfl (by decide) rfl rfl ?_
        refine z_aload_n hz dX10_both_17 0 rfl rfl ?_
        refine z_sipush hz 20001 dX10_both_18 ks_20001 ?_
        refine z_callD (bs2 := [zO (ad 99) 10 (mFs ad (upd (upd (upd (upd (upd iv 8 (nI u)) 7 (nI d)) 6 (nI ((emF 20001 (sub (advF t))).1))) 9 (zB ((emF 20001 (sub (advF t))).2.1 = true))) 11 (nI ((emF 20001 (sub (advF t))).2.2.2)))), zI (G.2.2.1 0) (ad 0) 602 g, zI (G.2.2.1 0) (ad 10) 60 ((emF 20001 (sub (advF t))).2.2.1), zQr (G.2.2.1 6) (ad 5) 4 (nmdF G)]) (st2 := []) hz hA (zk_V hz (rm := (zRm 0 0 0 0)) (As := [.int 20001]) (rest := []) 1 q2182 q2184 qs54 q95 q2185 (by decide +kernel) ⟨by dsimp only [zRm]; omega, by dsimp only [zRm]; omega⟩ ⟨Nat.le_of_ble_eq_true rfl, Nat.le_of_ble_eq_true rfl⟩ (zRecv (q := (RX10, TX10, 29)) hz (zAt.mt 0 0 rfl rfl) rfl) rfl rfl (Nat.le_of_ble_eq_true rfl) dX10_both_21) (mM_codes ad iv u d (sub (advF t)) 20001 (by have := hb.2.2.2.2; have := hq.2.1; omega)) [0, 2] rfl (by decide) rfl rfl ?_
        refine z_bs (bs2 := [zO (ad 99) 10 (mFs ad (upd (upd (upd (upd (upd iv 8 (nI u)) 7 (nI d)) 6 (nI ((emF 20001 (sub (advF t))).1))) 9 (zB ((emF 20001 (sub (advF t))).2.1 = true))) 11 (nI ((emF 20001 (sub (advF t))).2.2.2)))), zI (G.2.2.1 0) (ad 0) 602 g, zI (G.2.2.1 0) (ad 10) 60 ((emF 20001 (sub (advF t))).2.2.1), zQr (G.2.2.1 6) (ad 5) 4 (nmdF G)]) rfl ?_
        refine z_goto hz 4 dX10_both_24 (by decide) ?_
        exact ih_4 (f - 1) (emF 20001 (sub (advF t))) hb.2.2.1 (by have := hb.2.2.2.1; omega) (by have := hb.2.1; omega) (by rw [hE, show f = (f - 1) + 1 by omega]; simp only [lpF]; rw [if_neg hx, hv]; rfl) (by omega)
  exact lp_4 ((51) + 1) 51 (sub sp) hs.2.1 (by have := hs.2.2; have := hs.1; omega) (by omega) rfl (Nat.lt_succ_self _)
set_option maxHeartbeats 4000000 in
theorem mM_product {G : zG} (ad : Nat → Nat) (iv g : Nat → Int32) (n0 u d : Nat) (sp : zP) (hn6 : g 6 = nI n0) (hn50 : n0 ≤ 50) (hu : u < 4) (f9 lo9 : Nat) (hf9 : 1 ≤ f9) (hlo9 : 60 ≤ lo9) (sub : zP → zP) (hgd : gdP n0 sub) (hone : ∀ sp : zP, sp.1 ≤ n0 → sp.2.2.2 ≤ sp.1 → zMet G yX10_one (ws_ yX10_one cX10_one 4 none) (zRm f9 0 0 lo9) [.ref (ad 99)] [zO (ad 99) 10 (mFs ad (upd (upd (upd (upd (upd iv 8 (nI u)) 7 (nI d)) 6 (nI sp.1)) 9 (zB (sp.2.1 = true))) 11 (nI sp.2.2.2))), zI (G.2.2.1 0) (ad 0) 602 g, zI (G.2.2.1 0) (ad 10) 60 sp.2.2.1, zQr (G.2.2.1 6) (ad 5) 4 (nmdF G)] (fun v9 b9 => v9 = none ∧ b9 = [zO (ad 99) 10 (mFs ad (upd (upd (upd (upd (upd iv 8 (nI u)) 7 (nI d)) 6 (nI ((sub sp).1))) 9 (zB ((sub sp).2.1 = true))) 11 (nI ((sub sp).2.2.2)))), zI (G.2.2.1 0) (ad 0) 602 g, zI (G.2.2.1 0) (ad 10) 60 ((sub sp).2.2.1), zQr (G.2.2.1 6) (ad 5) 4 (nmdF G)])) (h1 : sp.1 ≤ n0) (h2 : sp.2.2.2 ≤ sp.1) : zMet G yX10_product (ws_ yX10_product cX10_product 2 none) (zRm (f9 + 1) 0 0 (lo9 + 60)) [.ref (ad 99)] [zO (ad 99) 10 (mFs ad (upd (upd (upd (upd (upd iv 8 (nI u)) 7 (nI d)) 6 (nI sp.1)) 9 (zB (sp.2.1 = true))) 11 (nI sp.2.2.2))), zI (G.2.2.1 0) (ad 0) 602 g, zI (G.2.2.1 0) (ad 10) 60 sp.2.2.1, zQr (G.2.2.1 6) (ad 5) 4 (nmdF G)] (fun v9 b9 => v9 = none ∧ b9 = [zO (ad 99) 10 (mFs ad (upd (upd (upd (upd (upd iv 8 (nI u)) 7 (nI d)) 6 (nI ((lpF g n0 [(42, 20007), (47, 20008), (37, 20009)] sub 51 (sub sp)).1))) 9 (zB ((lpF g n0 [(42, 20007), (47, 20008), (37, 20009)] sub 51 (sub sp)).2.1 = true))) 11 (nI ((lpF g n0 [(42, 20007), (47, 20008), (37, 20009)] sub 51 (sub sp)).2.2.2)))), zI (G.2.2.1 0) (ad 0) 602 g, zI (G.2.2.1 0) (ad 10) 60 ((lpF g n0 [(42, 20007), (47, 20008), (37, 20009)] sub 51 (sub sp)).2.2.1), zQr (G.2.2.1 6) (ad 5) 4 (nmdF G)]) := by
  refine zMet.of (by decide +kernel) (Nat.le_of_ble_eq_true rfl) ?_
  intro p e s m args below meth c A hz hA hr hlk hnm9 Q hQ
  refine z_lv (lv' := [(0, .ref (ad 99))]) [0] rfl ?_
  have hs := hgd sp h1 h2
  have lp_51 : ∀ (n9 : Nat) (f : Nat) (t : zP) (is9 : Int32), t.1 ≤ n0 → t.2.2.2 ≤ t.1 → n0 - t.1 < f → lpF g n0 [(42, 20007), (47, 20008), (37, 20009)] sub 51 (sub sp) = lpF g n0 [(42, 20007), (47, 20008), (37, 20009)] sub f t → is9 = sgL [(42, 20007), (47, 20008), (37, 20009)] (hereF g n0 t) → f < n9 → zW p G.1 e (zRm (f9 + 1) 0 0 (lo9 + 60)) s m args below meth c 2 Q 0 0 (zΦ G A s [zO (ad 99) 10 (mFs ad (upd (upd (upd (upd (upd iv 8 (nI u)) 7 (nI d)) 6 (nI ((if is9 = 0 then t else advF t).1))) 9 (zB ((if is9 = 0 then t else advF t).2.1 = true))) 11 (nI ((if is9 = 0 then t else advF t).2.2.2)))), zI (G.2.2.1 0) (ad 0) 602 g, zI (G.2.2.1 0) (ad 10) 60 ((if is9 = 0 then t else advF t).2.2.1), zQr (G.2.2.1 6) (ad 5) 4 (nmdF G)]) 51 [(0, .ref (ad 99)), (1, .int is9)] [] := by
    intro n9
    induction n9 with
    | zero => intro _ _ _ _ _ _ _ _ hm; exact absurd hm (Nat.not_lt_zero _)
    | succ n9 ih_51 =>
      intro f t is9 h1t h2t hf hE his hm_51
      refine z_iload_n hz dX10_product_51 1 rfl rfl ?_
      refine z_if_le hz 114 dX10_product_52 (by decide) (fun c1 => ?_) (fun c1 => ?_)
      · have h0 : is9 = 0 := sg_le his (by decide) c1
        rw [show (if is9 = 0 then t else advF t) = t from if_pos h0]
        refine z_bs (bs2 := [zO (ad 99) 10 (mFs ad (upd (upd (upd (upd (upd iv 8 (nI u)) 7 (nI d)) 6 (nI t.1)) 9 (zB (t.2.1 = true))) 11 (nI t.2.2.2))), zI (G.2.2.1 0) (ad 0) 602 g, zI (G.2.2.1 0) (ad 10) 60 t.2.2.1, zQr (G.2.2.1 6) (ad 5) 4 (nmdF G)]) rfl ?_
        have hend : lpF g n0 [(42, 20007), (47, 20008), (37, 20009)] sub 51 (sub sp) = t := by rw [hE]; exact lp_end (by rw [← his]; exact h0) _
        exact z_vret hQ hz hr hlk dX10_product_114 ⟨rfl, (by rw [hend])⟩
      · have h0 : ¬ is9 = 0 := fun h9 => c1 (by rw [h9]; decide)
        rw [show (if is9 = 0 then t else advF t) = advF t from if_neg h0]
        refine z_bs (bs2 := [zO (ad 99) 10 (mFs ad (upd (upd (upd (upd (upd iv 8 (nI u)) 7 (nI d)) 6 (nI ((advF t).1))) 9 (zB ((advF t).2.1 = true))) 11 (nI ((advF t).2.2.2)))), zI (G.2.2.1 0) (ad 0) 602 g, zI (G.2.2.1 0) (ad 10) 60 ((advF t).2.2.1), zQr (G.2.2.1 6) (ad 5) 4 (nmdF G)]) rfl ?_
        have hx : ¬ sgL [(42, 20007), (47, 20008), (37, 20009)] (hereF g n0 t) = 0 := by rw [← his]; exact h0
        have hb := gd_step (g := g) (v := is9) hgd (L := [(42, 20007), (47, 20008), (37, 20009)]) (by decide) h1t h2t hx
        have hq := hgd (advF t) (show t.1 + 1 ≤ n0 by have := hb.1; omega) (show t.2.2.2 ≤ t.1 + 1 by omega)
        refine z_aload_n hz dX10_product_55 0 rfl rfl ?_
        refine z_callD (bs2 := [zO (ad 99) 10 (mFs ad (upd (upd (upd (upd (upd iv 8 (nI u)) 7 (nI d)) 6 (nI ((sub (advF t)).1))) 9 (zB ((sub (advF t)).2.1 = true))) 11 (nI ((sub (advF t)).2.2.2)))), zI (G.2.2.1 0) (ad 0) 602 g, zI (G.2.2.1 0) (ad 10) 60 ((sub (advF t)).2.2.1), zQr (G.2.2.1 6) (ad 5) 4 (nmdF G)]) (st2 := []) hz hA (zk_V hz (rm := (zRm f9 0 0 lo9)) (As := []) (rest := []) 0 q2174 q2176 qs52 q95 q2177 (by decide +kernel) ⟨by dsimp only [zRm]; omega, by dsimp only [zRm]; omega⟩ ⟨Nat.le_of_ble_eq_true rfl, Nat.le_of_ble_eq_true rfl⟩ (zRecv (q := (RX10, TX10, 29)) hz (zAt.mt 0 0 rfl rfl) rfl) rfl rfl (Nat.le_of_ble_eq_true rfl) dX10_product_56) (hone (advF t) (show t.1 + 1 ≤ n0 by have := hb.1; omega) (show t.2.2.2 ≤ t.1 + 1 by omega)) [0, 1, 2, 3] rfl (by decide) rfl rfl ?_
        refine z_aload_n hz dX10_product_59 0 rfl rfl ?_
        refine z_iload_n hz dX10_product_60 1 rfl rfl ?_
        refine z_callD (bs2 := [zO (ad 99) 10 (mFs ad (upd (upd (upd (upd (upd iv 8 (nI u)) 7 (nI d)) 6 (nI ((emF is9 (sub (advF t))).1))) 9 (zB ((emF is9 (sub (advF t))).2.1 = true))) 11 (nI ((emF is9 (sub (advF t))).2.2.2)))), zI (G.2.2.1 0) (ad 0) 602 g, zI (G.2.2.1 0) (ad 10) 60 ((emF is9 (sub (advF t))).2.2.1), zQr (G.2.2.1 6) (ad 5) 4 (nmdF G)]) (st2 := []) hz hA (zk_V hz (rm := (zRm 0 0 0 0)) (As := [.int is9]) (rest := []) 1 q2182 q2184 qs54 q95 q2185 (by decide +kernel) ⟨by dsimp only [zRm]; omega, by dsimp only [zRm]; omega⟩ ⟨Nat.le_of_ble_eq_true rfl, Nat.le_of_ble_eq_true rfl⟩ (zRecv (q := (RX10, TX10, 29)) hz (zAt.mt 0 0 rfl rfl) rfl) rfl rfl (Nat.le_of_ble_eq_true rfl) dX10_product_61) (mM_codes ad iv u d (sub (advF t)) is9 (by have := hb.2.2.2.2; have := hq.2.1; omega)) [0, 2] rfl (by decide) rfl rfl ?_
        refine z_bs (bs2 := [zO (ad 99) 10 (mFs ad (upd (upd (upd (upd (upd iv 8 (nI u)) 7 (nI d)) 6 (nI ((emF is9 (sub (advF t))).1))) 9 (zB ((emF is9 (sub (advF t))).2.1 = true))) 11 (nI ((emF is9 (sub (advF t))).2.2.2)))), zI (G.2.2.1 0) (ad 0) 602 g, zI (G.2.2.1 0) (ad 10) 60 ((emF is9 (sub (advF t))).2.2.1), zQr (G.2.2.1 6) (ad 5) 4 (nmdF G)]) rfl ?_
        refine z_aload_n hz dX10_product_64 0 rfl rfl ?_
        refine z_bipush hz 42 dX10_product_65 kb_42 ?_
        refine z_callD (bs2 := [zO (ad 99) 10 (mFs ad (upd (upd (upd (upd (upd iv 8 (nI u)) 7 (nI d)) 6 (nI ((tkF g n0 42 (emF is9 (sub (advF t)))).1))) 9 (zB ((tkF g n0 42 (emF is9 (sub (advF t)))).2.1 = true))) 11 (nI ((tkF g n0 42 (emF is9 (sub (advF t)))).2.2.2)))), zI (G.2.2.1 0) (ad 0) 602 g, zI (G.2.2.1 0) (ad 10) 60 ((emF is9 (sub (advF t))).2.2.1), zQr (G.2.2.1 6) (ad 5) 4 (nmdF G)]) (st2 := [.int (zB (hereF g n0 (emF is9 (sub (advF t))) = 42))]) hz hA (zk_V hz (rm := (zRm 1 0 0 30)) (As := [.int 42]) (rest := []) 1 q2186 q2188 qs55 q95 q2189 (by decide +kernel) ⟨by dsimp only [zRm]; omega, by dsimp only [zRm]; omega⟩ ⟨Nat.le_of_ble_eq_true rfl, Nat.le_of_ble_eq_true rfl⟩ (zRecv (q := (RX10, TX10, 29)) hz (zAt.mt 0 0 rfl rfl) rfl) rfl rfl (Nat.le_of_ble_eq_true rfl) dX10_product_67) (mM_takes ad iv g n0 u d (emF is9 (sub (advF t))) hn6 hn50 hu hb.2.2.1 42) [0, 1] rfl (by decide) rfl rfl ?_
        refine z_ifB_eq hz 79 dX10_product_70 (by decide) (fun c2 => ?_) (fun c2 => ?_)
        · rw [show tkF g n0 42 (emF is9 (sub (advF t))) = (emF is9 (sub (advF t))) from if_neg c2]
          refine z_bs (bs2 := [zO (ad 99) 10 (mFs ad (upd (upd (upd (upd (upd iv 8 (nI u)) 7 (nI d)) 6 (nI ((emF is9 (sub (advF t))).1))) 9 (zB ((emF is9 (sub (advF t))).2.1 = true))) 11 (nI ((emF is9 (sub (advF t))).2.2.2)))), zI (G.2.2.1 0) (ad 0) 602 g, zI (G.2.2.1 0) (ad 10) 60 ((emF is9 (sub (advF t))).2.2.1), zQr (G.2.2.1 6) (ad 5) 4 (nmdF G)]) rfl ?_
          refine z_aload_n hz dX10_product_79 0 rfl rfl ?_
          refine z_bipush hz 47 dX10_product_80 kb_47 ?_
          refine z_callD (bs2 := [zO (ad 99) 10 (mFs ad (upd (upd (upd (upd (upd iv 8 (nI u)) 7 (nI d)) 6 (nI ((tkF g n0 47 (emF is9 (sub (advF t)))).1))) 9 (zB ((tkF g n0 47 (emF is9 (sub (advF t)))).2.1 = true))) 11 (nI ((tkF g n0 47 (emF is9 (sub (advF t)))).2.2.2)))), zI (G.2.2.1 0) (ad 0) 602 g, zI (G.2.2.1 0) (ad 10) 60 ((emF is9 (sub (advF t))).2.2.1), zQr (G.2.2.1 6) (ad 5) 4 (nmdF G)]) (st2 := [.int (zB (hereF g n0 (emF is9 (sub (advF t))) = 47))]) hz hA (zk_V hz (rm := (zRm 1 0 0 30)) (As := [.int 47]) (rest := []) 1 q2186 q2188 qs55 q95 q2189 (by decide +kernel) ⟨by dsimp only [zRm]; omega, by dsimp only [zRm]; omega⟩ ⟨Nat.le_of_ble_eq_true rfl, Nat.le_of_ble_eq_true rfl⟩ (zRecv (q := (RX10, TX10, 29)) hz (zAt.mt 0 0 rfl rfl) rfl) rfl rfl (Nat.le_of_ble_eq_true rfl) dX10_product_82) (mM_takes ad iv g n0 u d (emF is9 (sub (advF t))) hn6 hn50 hu hb.2.2.1 47) [0, 1] rfl (by decide) rfl rfl ?_
          refine z_ifB_eq hz 94 dX10_product_85 (by decide) (fun c3 => ?_) (fun c3 => ?_)
          · rw [show tkF g n0 47 (emF is9 (sub (advF t))) = (emF is9 (sub (advF t))) from if_neg c3]
            refine z_bs (bs2 := [zO (ad 99) 10 (mFs ad (upd (upd (upd (upd (upd iv 8 (nI u)) 7 (nI d)) 6 (nI ((emF is9 (sub (advF t))).1))) 9 (zB ((emF is9 (sub (advF t))).2.1 = true))) 11 (nI ((emF is9 (sub (advF t))).2.2.2)))), zI (G.2.2.1 0) (ad 0) 602 g, zI (G.2.2.1 0) (ad 10) 60 ((emF is9 (sub (advF t))).2.2.1), zQr (G.2.2.1 6) (ad 5) 4 (nmdF G)]) rfl ?_
            refine z_aload_n hz dX10_product_94 0 rfl rfl ?_
            refine z_bipush hz 37 dX10_product_95 kb_37 ?_
            refine z_callD (bs2 := [zO (ad 99) 10 (mFs ad (upd (upd (upd (upd (upd iv 8 (nI u)) 7 (nI d)) 6 (nI ((tkF g n0 37 (emF is9 (sub (advF t)))).1))) 9 (zB ((tkF g n0 37 (emF is9 (sub (advF t)))).2.1 = true))) 11 (nI ((tkF g n0 37 (emF is9 (sub (advF t)))).2.2.2)))), zI (G.2.2.1 0) (ad 0) 602 g, zI (G.2.2.1 0) (ad 10) 60 ((emF is9 (sub (advF t))).2.2.1), zQr (G.2.2.1 6) (ad 5) 4 (nmdF G)]) (st2 := [.int (zB (hereF g n0 (emF is9 (sub (advF t))) = 37))]) hz hA (zk_V hz (rm := (zRm 1 0 0 30)) (As := [.int 37]) (rest := []) 1 q2186 q2188 qs55 q95 q2189 (by decide +kernel) ⟨by dsimp only [zRm]; omega, by dsimp only [zRm]; omega⟩ ⟨Nat.le_of_ble_eq_true rfl, Nat.le_of_ble_eq_true rfl⟩ (zRecv (q := (RX10, TX10, 29)) hz (zAt.mt 0 0 rfl rfl) rfl) rfl rfl (Nat.le_of_ble_eq_true rfl) dX10_product_97) (mM_takes ad iv g n0 u d (emF is9 (sub (advF t))) hn6 hn50 hu hb.2.2.1 37) [0, 1] rfl (by decide) rfl rfl ?_
            refine z_ifB_eq hz 109 dX10_product_100 (by decide) (fun c4 => ?_) (fun c4 => ?_)
            · rw [show tkF g n0 37 (emF is9 (sub (advF t))) = (emF is9 (sub (advF t))) from if_neg c4]
              refine z_bs (bs2 := [zO (ad 99) 10 (mFs ad (upd (upd (upd (upd (upd iv 8 (nI u)) 7 (nI d)) 6 (nI ((emF is9 (sub (advF t))).1))) 9 (zB ((emF is9 (sub (advF t))).2.1 = true))) 11 (nI ((emF is9 (sub (advF t))).2.2.2)))), zI (G.2.2.1 0) (ad 0) 602 g, zI (G.2.2.1 0) (ad 10) 60 ((emF is9 (sub (advF t))).2.2.1), zQr (G.2.2.1 6) (ad 5) 4 (nmdF G)]) rfl ?_
              refine z_iconst hz 0 dX10_product_109 ki_0 ?_
              refine z_istore_n (lv' := [(0, .ref (ad 99)), (1, .int 0)]) hz [1, 0] dX10_product_110 rfl (by decide) rfl ?_
              refine z_goto hz 51 dX10_product_111 (by decide) ?_
              refine z_bs (bs2 := [zO (ad 99) 10 (mFs ad (upd (upd (upd (upd (upd iv 8 (nI u)) 7 (nI d)) 6 (nI ((if (0 : Int32) = 0 then (emF is9 (sub (advF t))) else advF (emF is9 (sub (advF t)))).1))) 9 (zB ((if (0 : Int32) = 0 then (emF is9 (sub (advF t))) else advF (emF is9 (sub (advF t)))).2.1 = true))) 11 (nI ((if (0 : Int32) = 0 then (emF is9 (sub (advF t))) else advF (emF is9 (sub (advF t)))).2.2.2)))), zI (G.2.2.1 0) (ad 0) 602 g, zI (G.2.2.1 0) (ad 10) 60 ((if (0 : Int32) = 0 then (emF is9 (sub (advF t))) else advF (emF is9 (sub (advF t)))).2.2.1), zQr (G.2.2.1 6) (ad 5) 4 (nmdF G)]) (by rw [show (if (0 : Int32) = 0 then (emF is9 (sub (advF t))) else advF (emF is9 (sub (advF t)))) = (emF is9 (sub (advF t))) from if_pos rfl]) ?_
              exact ih_51 (f - 1) (emF is9 (sub (advF t))) 0 hb.2.2.1 (by have := hb.2.2.2.1; omega) (by have := hb.2.1; omega) (by rw [hE, show f = (f - 1) + 1 by omega]; simp only [lpF]; rw [if_neg hx, ← his]; rfl) (by simp only [sgL]; rw [if_neg c2, if_neg c3, if_neg c4]) (by omega)
            · rw [show tkF g n0 37 (emF is9 (sub (advF t))) = advF (emF is9 (sub (advF t))) from if_pos c4]
              refine z_bs (bs2 := [zO (ad 99) 10 (mFs ad (upd (upd (upd (upd (upd iv 8 (nI u)) 7 (nI d)) 6 (nI ((advF (emF is9 (sub (advF t)))).1))) 9 (zB ((advF (emF is9 (sub (advF t)))).2.1 = true))) 11 (nI ((advF (emF is9 (sub (advF t)))).2.2.2)))), zI (G.2.2.1 0) (ad 0) 602 g, zI (G.2.2.1 0) (ad 10) 60 ((advF (emF is9 (sub (advF t)))).2.2.1), zQr (G.2.2.1 6) (ad 5) 4 (nmdF G)]) rfl ?_
              refine z_sipush hz 20009 dX10_product_103 ks_20009 ?_
              refine z_goto hz 110 dX10_product_106 (by decide) ?_
              refine z_istore_n (lv' := [(0, .ref (ad 99)), (1, .int 20009)]) hz [1, 0] dX10_product_110 rfl (by decide) rfl ?_
              refine z_goto hz 51 dX10_product_111 (by decide) ?_
              refine z_bs (bs2 := [zO (ad 99) 10 (mFs ad (upd (upd (upd (upd (upd iv 8 (nI u)) 7 (nI d)) 6 (nI ((if (20009 : Int32) = 0 then (emF is9 (sub (advF t))) else advF (emF is9 (sub (advF t)))).1))) 9 (zB ((if (20009 : Int32) = 0 then (emF is9 (sub (advF t))) else advF (emF is9 (sub (advF t)))).2.1 = true))) 11 (nI ((if (20009 : Int32) = 0 then (emF is9 (sub (advF t))) else advF (emF is9 (sub (advF t)))).2.2.2)))), zI (G.2.2.1 0) (ad 0) 602 g, zI (G.2.2.1 0) (ad 10) 60 ((if (20009 : Int32) = 0 then (emF is9 (sub (advF t))) else advF (emF is9 (sub (advF t)))).2.2.1), zQr (G.2.2.1 6) (ad 5) 4 (nmdF G)]) (by rw [show (if (20009 : Int32) = 0 then (emF is9 (sub (advF t))) else advF (emF is9 (sub (advF t)))) = (advF (emF is9 (sub (advF t)))) from if_neg (by decide)]) ?_
              exact ih_51 (f - 1) (emF is9 (sub (advF t))) 20009 hb.2.2.1 (by have := hb.2.2.2.1; omega) (by have := hb.2.1; omega) (by rw [hE, show f = (f - 1) + 1 by omega]; simp only [lpF]; rw [if_neg hx, ← his]; rfl) (by simp only [sgL]; rw [if_neg c2, if_neg c3, if_pos c4]) (by omega)
          · rw [show tkF g n0 47 (emF is9 (sub (advF t))) = advF (emF is9 (sub (advF t))) from if_pos c3]
            refine z_bs (bs2 := [zO (ad 99) 10 (mFs ad (upd (upd (upd (upd (upd iv 8 (nI u)) 7 (nI d)) 6 (nI ((advF (emF is9 (sub (advF t)))).1))) 9 (zB ((advF (emF is9 (sub (advF t)))).2.1 = true))) 11 (nI ((advF (emF is9 (sub (advF t)))).2.2.2)))), zI (G.2.2.1 0) (ad 0) 602 g, zI (G.2.2.1 0) (ad 10) 60 ((advF (emF is9 (sub (advF t)))).2.2.1), zQr (G.2.2.1 6) (ad 5) 4 (nmdF G)]) rfl ?_
            refine z_sipush hz 20008 dX10_product_88 ks_20008 ?_
            refine z_goto hz 110 dX10_product_91 (by decide) ?_
            refine z_istore_n (lv' := [(0, .ref (ad 99)), (1, .int 20008)]) hz [1, 0] dX10_product_110 rfl (by decide) rfl ?_
            refine z_goto hz 51 dX10_product_111 (by decide) ?_
            refine z_bs (bs2 := [zO (ad 99) 10 (mFs ad (upd (upd (upd (upd (upd iv 8 (nI u)) 7 (nI d)) 6 (nI ((if (20008 : Int32) = 0 then (emF is9 (sub (advF t))) else advF (emF is9 (sub (advF t)))).1))) 9 (zB ((if (20008 : Int32) = 0 then (emF is9 (sub (advF t))) else advF (emF is9 (sub (advF t)))).2.1 = true))) 11 (nI ((if (20008 : Int32) = 0 then (emF is9 (sub (advF t))) else advF (emF is9 (sub (advF t)))).2.2.2)))), zI (G.2.2.1 0) (ad 0) 602 g, zI (G.2.2.1 0) (ad 10) 60 ((if (20008 : Int32) = 0 then (emF is9 (sub (advF t))) else advF (emF is9 (sub (advF t)))).2.2.1), zQr (G.2.2.1 6) (ad 5) 4 (nmdF G)]) (by rw [show (if (20008 : Int32) = 0 then (emF is9 (sub (advF t))) else advF (emF is9 (sub (advF t)))) = (advF (emF is9 (sub (advF t)))) from if_neg (by decide)]) ?_
            exact ih_51 (f - 1) (emF is9 (sub (advF t))) 20008 hb.2.2.1 (by have := hb.2.2.2.1; omega) (by have := hb.2.1; omega) (by rw [hE, show f = (f - 1) + 1 by omega]; simp only [lpF]; rw [if_neg hx, ← his]; rfl) (by simp only [sgL]; rw [if_neg c2, if_pos c3]) (by omega)
        · rw [show tkF g n0 42 (emF is9 (sub (advF t))) = advF (emF is9 (sub (advF t))) from if_pos c2]
          refine z_bs (bs2 := [zO (ad 99) 10 (mFs ad (upd (upd (upd (upd (upd iv 8 (nI u)) 7 (nI d)) 6 (nI ((advF (emF is9 (sub (advF t)))).1))) 9 (zB ((advF (emF is9 (sub (advF t)))).2.1 = true))) 11 (nI ((advF (emF is9 (sub (advF t)))).2.2.2)))), zI (G.2.2.1 0) (ad 0) 602 g, zI (G.2.2.1 0) (ad 10) 60 ((advF (emF is9 (sub (advF t)))).2.2.1), zQr (G.2.2.1 6) (ad 5) 4 (nmdF G)]) rfl ?_
          refine z_sipush hz 20007 dX10_product_73 ks_20007 ?_
          refine z_goto hz 110 dX10_product_76 (by decide) ?_
          refine z_istore_n (lv' := [(0, .ref (ad 99)), (1, .int 20007)]) hz [1, 0] dX10_product_110 rfl (by decide) rfl ?_
          refine z_goto hz 51 dX10_product_111 (by decide) ?_
          refine z_bs (bs2 := [zO (ad 99) 10 (mFs ad (upd (upd (upd (upd (upd iv 8 (nI u)) 7 (nI d)) 6 (nI ((if (20007 : Int32) = 0 then (emF is9 (sub (advF t))) else advF (emF is9 (sub (advF t)))).1))) 9 (zB ((if (20007 : Int32) = 0 then (emF is9 (sub (advF t))) else advF (emF is9 (sub (advF t)))).2.1 = true))) 11 (nI ((if (20007 : Int32) = 0 then (emF is9 (sub (advF t))) else advF (emF is9 (sub (advF t)))).2.2.2)))), zI (G.2.2.1 0) (ad 0) 602 g, zI (G.2.2.1 0) (ad 10) 60 ((if (20007 : Int32) = 0 then (emF is9 (sub (advF t))) else advF (emF is9 (sub (advF t)))).2.2.1), zQr (G.2.2.1 6) (ad 5) 4 (nmdF G)]) (by rw [show (if (20007 : Int32) = 0 then (emF is9 (sub (advF t))) else advF (emF is9 (sub (advF t)))) = (advF (emF is9 (sub (advF t)))) from if_neg (by decide)]) ?_
          exact ih_51 (f - 1) (emF is9 (sub (advF t))) 20007 hb.2.2.1 (by have := hb.2.2.2.1; omega) (by have := hb.2.1; omega) (by rw [hE, show f = (f - 1) + 1 by omega]; simp only [lpF]; rw [if_neg hx, ← his]; rfl) (by simp only [sgL]; rw [if_pos c2]) (by omega)
  refine z_aload_n hz dX10_product_0 0 rfl rfl ?_
  refine z_callD (bs2 := [zO (ad 99) 10 (mFs ad (upd (upd (upd (upd (upd iv 8 (nI u)) 7 (nI d)) 6 (nI ((sub sp).1))) 9 (zB ((sub sp).2.1 = true))) 11 (nI ((sub sp).2.2.2)))), zI (G.2.2.1 0) (ad 0) 602 g, zI (G.2.2.1 0) (ad 10) 60 ((sub sp).2.2.1), zQr (G.2.2.1 6) (ad 5) 4 (nmdF G)]) (st2 := []) hz hA (zk_V hz (rm := (zRm f9 0 0 lo9)) (As := []) (rest := []) 0 q2174 q2176 qs52 q95 q2177 (by decide +kernel) ⟨by dsimp only [zRm]; omega, by dsimp only [zRm]; omega⟩ ⟨Nat.le_of_ble_eq_true rfl, Nat.le_of_ble_eq_true rfl⟩ (zRecv (q := (RX10, TX10, 29)) hz (zAt.mt 0 0 rfl rfl) rfl) rfl rfl (Nat.le_of_ble_eq_true rfl) dX10_product_1) (hone sp h1 h2) [0, 1, 2, 3] rfl (by decide) rfl rfl ?_
  refine z_aload_n hz dX10_product_4 0 rfl rfl ?_
  refine z_bipush hz 42 dX10_product_5 kb_42 ?_
  refine z_callD (bs2 := [zO (ad 99) 10 (mFs ad (upd (upd (upd (upd (upd iv 8 (nI u)) 7 (nI d)) 6 (nI ((tkF g n0 42 (sub sp)).1))) 9 (zB ((tkF g n0 42 (sub sp)).2.1 = true))) 11 (nI ((tkF g n0 42 (sub sp)).2.2.2)))), zI (G.2.2.1 0) (ad 0) 602 g, zI (G.2.2.1 0) (ad 10) 60 ((sub sp).2.2.1), zQr (G.2.2.1 6) (ad 5) 4 (nmdF G)]) (st2 := [.int (zB (hereF g n0 (sub sp) = 42))]) hz hA (zk_V hz (rm := (zRm 1 0 0 30)) (As := [.int 42]) (rest := []) 1 q2186 q2188 qs55 q95 q2189 (by decide +kernel) ⟨by dsimp only [zRm]; omega, by dsimp only [zRm]; omega⟩ ⟨Nat.le_of_ble_eq_true rfl, Nat.le_of_ble_eq_true rfl⟩ (zRecv (q := (RX10, TX10, 29)) hz (zAt.mt 0 0 rfl rfl) rfl) rfl rfl (Nat.le_of_ble_eq_true rfl) dX10_product_7) (mM_takes ad iv g n0 u d (sub sp) hn6 hn50 hu hs.2.1 42) [0, 1] rfl (by decide) rfl rfl ?_
  refine z_ifB_eq hz 19 dX10_product_10 (by decide) (fun c5 => ?_) (fun c5 => ?_)
  · rw [show tkF g n0 42 (sub sp) = (sub sp) from if_neg c5]
    refine z_bs (bs2 := [zO (ad 99) 10 (mFs ad (upd (upd (upd (upd (upd iv 8 (nI u)) 7 (nI d)) 6 (nI ((sub sp).1))) 9 (zB ((sub sp).2.1 = true))) 11 (nI ((sub sp).2.2.2)))), zI (G.2.2.1 0) (ad 0) 602 g, zI (G.2.2.1 0) (ad 10) 60 ((sub sp).2.2.1), zQr (G.2.2.1 6) (ad 5) 4 (nmdF G)]) rfl ?_
    refine z_aload_n hz dX10_product_19 0 rfl rfl ?_
    refine z_bipush hz 47 dX10_product_20 kb_47 ?_
    refine z_callD (bs2 := [zO (ad 99) 10 (mFs ad (upd (upd (upd (upd (upd iv 8 (nI u)) 7 (nI d)) 6 (nI ((tkF g n0 47 (sub sp)).1))) 9 (zB ((tkF g n0 47 (sub sp)).2.1 = true))) 11 (nI ((tkF g n0 47 (sub sp)).2.2.2)))), zI (G.2.2.1 0) (ad 0) 602 g, zI (G.2.2.1 0) (ad 10) 60 ((sub sp).2.2.1), zQr (G.2.2.1 6) (ad 5) 4 (nmdF G)]) (st2 := [.int (zB (hereF g n0 (sub sp) = 47))]) hz hA (zk_V hz (rm := (zRm 1 0 0 30)) (As := [.int 47]) (rest := []) 1 q2186 q2188 qs55 q95 q2189 (by decide +kernel) ⟨by dsimp only [zRm]; omega, by dsimp only [zRm]; omega⟩ ⟨Nat.le_of_ble_eq_true rfl, Nat.le_of_ble_eq_true rfl⟩ (zRecv (q := (RX10, TX10, 29)) hz (zAt.mt 0 0 rfl rfl) rfl) rfl rfl (Nat.le_of_ble_eq_true rfl) dX10_product_22) (mM_takes ad iv g n0 u d (sub sp) hn6 hn50 hu hs.2.1 47) [0, 1] rfl (by decide) rfl rfl ?_
    refine z_ifB_eq hz 34 dX10_product_25 (by decide) (fun c6 => ?_) (fun c6 => ?_)
    · rw [show tkF g n0 47 (sub sp) = (sub sp) from if_neg c6]
      refine z_bs (bs2 := [zO (ad 99) 10 (mFs ad (upd (upd (upd (upd (upd iv 8 (nI u)) 7 (nI d)) 6 (nI ((sub sp).1))) 9 (zB ((sub sp).2.1 = true))) 11 (nI ((sub sp).2.2.2)))), zI (G.2.2.1 0) (ad 0) 602 g, zI (G.2.2.1 0) (ad 10) 60 ((sub sp).2.2.1), zQr (G.2.2.1 6) (ad 5) 4 (nmdF G)]) rfl ?_
      refine z_aload_n hz dX10_product_34 0 rfl rfl ?_
      refine z_bipush hz 37 dX10_product_35 kb_37 ?_
      refine z_callD (bs2 := [zO (ad 99) 10 (mFs ad (upd (upd (upd (upd (upd iv 8 (nI u)) 7 (nI d)) 6 (nI ((tkF g n0 37 (sub sp)).1))) 9 (zB ((tkF g n0 37 (sub sp)).2.1 = true))) 11 (nI ((tkF g n0 37 (sub sp)).2.2.2)))), zI (G.2.2.1 0) (ad 0) 602 g, zI (G.2.2.1 0) (ad 10) 60 ((sub sp).2.2.1), zQr (G.2.2.1 6) (ad 5) 4 (nmdF G)]) (st2 := [.int (zB (hereF g n0 (sub sp) = 37))]) hz hA (zk_V hz (rm := (zRm 1 0 0 30)) (As := [.int 37]) (rest := []) 1 q2186 q2188 qs55 q95 q2189 (by decide +kernel) ⟨by dsimp only [zRm]; omega, by dsimp only [zRm]; omega⟩ ⟨Nat.le_of_ble_eq_true rfl, Nat.le_of_ble_eq_true rfl⟩ (zRecv (q := (RX10, TX10, 29)) hz (zAt.mt 0 0 rfl rfl) rfl) rfl rfl (Nat.le_of_ble_eq_true rfl) dX10_product_37) (mM_takes ad iv g n0 u d (sub sp) hn6 hn50 hu hs.2.1 37) [0, 1] rfl (by decide) rfl rfl ?_
      refine z_ifB_eq hz 49 dX10_product_40 (by decide) (fun c7 => ?_) (fun c7 => ?_)
      · rw [show tkF g n0 37 (sub sp) = (sub sp) from if_neg c7]
        refine z_bs (bs2 := [zO (ad 99) 10 (mFs ad (upd (upd (upd (upd (upd iv 8 (nI u)) 7 (nI d)) 6 (nI ((sub sp).1))) 9 (zB ((sub sp).2.1 = true))) 11 (nI ((sub sp).2.2.2)))), zI (G.2.2.1 0) (ad 0) 602 g, zI (G.2.2.1 0) (ad 10) 60 ((sub sp).2.2.1), zQr (G.2.2.1 6) (ad 5) 4 (nmdF G)]) rfl ?_
        refine z_iconst hz 0 dX10_product_49 ki_0 ?_
        refine z_istore_n (lv' := [(0, .ref (ad 99)), (1, .int 0)]) hz [1, 0] dX10_product_50 rfl (by decide) rfl ?_
        refine z_bs (bs2 := [zO (ad 99) 10 (mFs ad (upd (upd (upd (upd (upd iv 8 (nI u)) 7 (nI d)) 6 (nI ((if (0 : Int32) = 0 then (sub sp) else advF (sub sp)).1))) 9 (zB ((if (0 : Int32) = 0 then (sub sp) else advF (sub sp)).2.1 = true))) 11 (nI ((if (0 : Int32) = 0 then (sub sp) else advF (sub sp)).2.2.2)))), zI (G.2.2.1 0) (ad 0) 602 g, zI (G.2.2.1 0) (ad 10) 60 ((if (0 : Int32) = 0 then (sub sp) else advF (sub sp)).2.2.1), zQr (G.2.2.1 6) (ad 5) 4 (nmdF G)]) (by rw [show (if (0 : Int32) = 0 then (sub sp) else advF (sub sp)) = (sub sp) from if_pos rfl]) ?_
        exact lp_51 ((51) + 1) 51 (sub sp) 0 hs.2.1 (by have := hs.2.2; have := hs.1; omega) (by omega) rfl (by simp only [sgL]; rw [if_neg c5, if_neg c6, if_neg c7]) (Nat.lt_succ_self _)
      · rw [show tkF g n0 37 (sub sp) = advF (sub sp) from if_pos c7]
        refine z_bs (bs2 := [zO (ad 99) 10 (mFs ad (upd (upd (upd (upd (upd iv 8 (nI u)) 7 (nI d)) 6 (nI ((advF (sub sp)).1))) 9 (zB ((advF (sub sp)).2.1 = true))) 11 (nI ((advF (sub sp)).2.2.2)))), zI (G.2.2.1 0) (ad 0) 602 g, zI (G.2.2.1 0) (ad 10) 60 ((advF (sub sp)).2.2.1), zQr (G.2.2.1 6) (ad 5) 4 (nmdF G)]) rfl ?_
        refine z_sipush hz 20009 dX10_product_43 ks_20009 ?_
        refine z_goto hz 50 dX10_product_46 (by decide) ?_
        refine z_istore_n (lv' := [(0, .ref (ad 99)), (1, .int 20009)]) hz [1, 0] dX10_product_50 rfl (by decide) rfl ?_
        refine z_bs (bs2 := [zO (ad 99) 10 (mFs ad (upd (upd (upd (upd (upd iv 8 (nI u)) 7 (nI d)) 6 (nI ((if (20009 : Int32) = 0 then (sub sp) else advF (sub sp)).1))) 9 (zB ((if (20009 : Int32) = 0 then (sub sp) else advF (sub sp)).2.1 = true))) 11 (nI ((if (20009 : Int32) = 0 then (sub sp) else advF (sub sp)).2.2.2)))), zI (G.2.2.1 0) (ad 0) 602 g, zI (G.2.2.1 0) (ad 10) 60 ((if (20009 : Int32) = 0 then (sub sp) else advF (sub sp)).2.2.1), zQr (G.2.2.1 6) (ad 5) 4 (nmdF G)]) (by rw [show (if (20009 : Int32) = 0 then (sub sp) else advF (sub sp)) = (advF (sub sp)) from if_neg (by decide)]) ?_
        exact lp_51 ((51) + 1) 51 (sub sp) 20009 hs.2.1 (by have := hs.2.2; have := hs.1; omega) (by omega) rfl (by simp only [sgL]; rw [if_neg c5, if_neg c6, if_pos c7]) (Nat.lt_succ_self _)
    · rw [show tkF g n0 47 (sub sp) = advF (sub sp) from if_pos c6]
      refine z_bs (bs2 := [zO (ad 99) 10 (mFs ad (upd (upd (upd (upd (upd iv 8 (nI u)) 7 (nI d)) 6 (nI ((advF (sub sp)).1))) 9 (zB ((advF (sub sp)).2.1 = true))) 11 (nI ((advF (sub sp)).2.2.2)))), zI (G.2.2.1 0) (ad 0) 602 g, zI (G.2.2.1 0) (ad 10) 60 ((advF (sub sp)).2.2.1), zQr (G.2.2.1 6) (ad 5) 4 (nmdF G)]) rfl ?_
      refine z_sipush hz 20008 dX10_product_28 ks_20008 ?_
      refine z_goto hz 50 dX10_product_31 (by decide) ?_
      refine z_istore_n (lv' := [(0, .ref (ad 99)), (1, .int 20008)]) hz [1, 0] dX10_product_50 rfl (by decide) rfl ?_
      refine z_bs (bs2 := [zO (ad 99) 10 (mFs ad (upd (upd (upd (upd (upd iv 8 (nI u)) 7 (nI d)) 6 (nI ((if (20008 : Int32) = 0 then (sub sp) else advF (sub sp)).1))) 9 (zB ((if (20008 : Int32) = 0 then (sub sp) else advF (sub sp)).2.1 = true))) 11 (nI ((if (20008 : Int32) = 0 then (sub sp) else advF (sub sp)).2.2.2)))), zI (G.2.2.1 0) (ad 0) 602 g, zI (G.2.2.1 0) (ad 10) 60 ((if (20008 : Int32) = 0 then (sub sp) else advF (sub sp)).2.2.1), zQr (G.2.2.1 6) (ad 5) 4 (nmdF G)]) (by rw [show (if (20008 : Int32) = 0 then (sub sp) else advF (sub sp)) = (advF (sub sp)) from if_neg (by decide)]) ?_
      exact lp_51 ((51) + 1) 51 (sub sp) 20008 hs.2.1 (by have := hs.2.2; have := hs.1; omega) (by omega) rfl (by simp only [sgL]; rw [if_neg c5, if_pos c6]) (Nat.lt_succ_self _)
  · rw [show tkF g n0 42 (sub sp) = advF (sub sp) from if_pos c5]
    refine z_bs (bs2 := [zO (ad 99) 10 (mFs ad (upd (upd (upd (upd (upd iv 8 (nI u)) 7 (nI d)) 6 (nI ((advF (sub sp)).1))) 9 (zB ((advF (sub sp)).2.1 = true))) 11 (nI ((advF (sub sp)).2.2.2)))), zI (G.2.2.1 0) (ad 0) 602 g, zI (G.2.2.1 0) (ad 10) 60 ((advF (sub sp)).2.2.1), zQr (G.2.2.1 6) (ad 5) 4 (nmdF G)]) rfl ?_
    refine z_sipush hz 20007 dX10_product_13 ks_20007 ?_
    refine z_goto hz 50 dX10_product_16 (by decide) ?_
    refine z_istore_n (lv' := [(0, .ref (ad 99)), (1, .int 20007)]) hz [1, 0] dX10_product_50 rfl (by decide) rfl ?_
    refine z_bs (bs2 := [zO (ad 99) 10 (mFs ad (upd (upd (upd (upd (upd iv 8 (nI u)) 7 (nI d)) 6 (nI ((if (20007 : Int32) = 0 then (sub sp) else advF (sub sp)).1))) 9 (zB ((if (20007 : Int32) = 0 then (sub sp) else advF (sub sp)).2.1 = true))) 11 (nI ((if (20007 : Int32) = 0 then (sub sp) else advF (sub sp)).2.2.2)))), zI (G.2.2.1 0) (ad 0) 602 g, zI (G.2.2.1 0) (ad 10) 60 ((if (20007 : Int32) = 0 then (sub sp) else advF (sub sp)).2.2.1), zQr (G.2.2.1 6) (ad 5) 4 (nmdF G)]) (by rw [show (if (20007 : Int32) = 0 then (sub sp) else advF (sub sp)) = (advF (sub sp)) from if_neg (by decide)]) ?_
    exact lp_51 ((51) + 1) 51 (sub sp) 20007 hs.2.1 (by have := hs.2.2; have := hs.1; omega) (by omega) rfl (by simp only [sgL]; rw [if_pos c5]) (Nat.lt_succ_self _)
set_option maxHeartbeats 4000000 in
theorem mM_sum {G : zG} (ad : Nat → Nat) (iv g : Nat → Int32) (n0 u d : Nat) (sp : zP) (hn6 : g 6 = nI n0) (hn50 : n0 ≤ 50) (hu : u < 4) (f9 lo9 : Nat) (hf9 : 1 ≤ f9) (hlo9 : 60 ≤ lo9) (sub : zP → zP) (hgd : gdP n0 sub) (hone : ∀ sp : zP, sp.1 ≤ n0 → sp.2.2.2 ≤ sp.1 → zMet G yX10_product (ws_ yX10_product cX10_product 2 none) (zRm f9 0 0 lo9) [.ref (ad 99)] [zO (ad 99) 10 (mFs ad (upd (upd (upd (upd (upd iv 8 (nI u)) 7 (nI d)) 6 (nI sp.1)) 9 (zB (sp.2.1 = true))) 11 (nI sp.2.2.2))), zI (G.2.2.1 0) (ad 0) 602 g, zI (G.2.2.1 0) (ad 10) 60 sp.2.2.1, zQr (G.2.2.1 6) (ad 5) 4 (nmdF G)] (fun v9 b9 => v9 = none ∧ b9 = [zO (ad 99) 10 (mFs ad (upd (upd (upd (upd (upd iv 8 (nI u)) 7 (nI d)) 6 (nI ((sub sp).1))) 9 (zB ((sub sp).2.1 = true))) 11 (nI ((sub sp).2.2.2)))), zI (G.2.2.1 0) (ad 0) 602 g, zI (G.2.2.1 0) (ad 10) 60 ((sub sp).2.2.1), zQr (G.2.2.1 6) (ad 5) 4 (nmdF G)])) (h1 : sp.1 ≤ n0) (h2 : sp.2.2.2 ≤ sp.1) : zMet G yX10_sum (ws_ yX10_sum cX10_sum 2 none) (zRm (f9 + 1) 0 0 (lo9 + 60)) [.ref (ad 99)] [zO (ad 99) 10 (mFs ad (upd (upd (upd (upd (upd iv 8 (nI u)) 7 (nI d)) 6 (nI sp.1)) 9 (zB (sp.2.1 = true))) 11 (nI sp.2.2.2))), zI (G.2.2.1 0) (ad 0) 602 g, zI (G.2.2.1 0) (ad 10) 60 sp.2.2.1, zQr (G.2.2.1 6) (ad 5) 4 (nmdF G)] (fun v9 b9 => v9 = none ∧ b9 = [zO (ad 99) 10 (mFs ad (upd (upd (upd (upd (upd iv 8 (nI u)) 7 (nI d)) 6 (nI ((lpF g n0 [(43, 20005), (45, 20006)] sub 51 (sub sp)).1))) 9 (zB ((lpF g n0 [(43, 20005), (45, 20006)] sub 51 (sub sp)).2.1 = true))) 11 (nI ((lpF g n0 [(43, 20005), (45, 20006)] sub 51 (sub sp)).2.2.2)))), zI (G.2.2.1 0) (ad 0) 602 g, zI (G.2.2.1 0) (ad 10) 60 ((lpF g n0 [(43, 20005), (45, 20006)] sub 51 (sub sp)).2.2.1), zQr (G.2.2.1 6) (ad 5) 4 (nmdF G)]) := by
  refine zMet.of (by decide +kernel) (Nat.le_of_ble_eq_true rfl) ?_
  intro p e s m args below meth c A hz hA hr hlk hnm9 Q hQ
  refine z_lv (lv' := [(0, .ref (ad 99))]) [0] rfl ?_
  have hs := hgd sp h1 h2
  have lp_36 : ∀ (n9 : Nat) (f : Nat) (t : zP) (is9 : Int32), t.1 ≤ n0 → t.2.2.2 ≤ t.1 → n0 - t.1 < f → lpF g n0 [(43, 20005), (45, 20006)] sub 51 (sub sp) = lpF g n0 [(43, 20005), (45, 20006)] sub f t → is9 = sgL [(43, 20005), (45, 20006)] (hereF g n0 t) → f < n9 → zW p G.1 e (zRm (f9 + 1) 0 0 (lo9 + 60)) s m args below meth c 2 Q 0 0 (zΦ G A s [zO (ad 99) 10 (mFs ad (upd (upd (upd (upd (upd iv 8 (nI u)) 7 (nI d)) 6 (nI ((if is9 = 0 then t else advF t).1))) 9 (zB ((if is9 = 0 then t else advF t).2.1 = true))) 11 (nI ((if is9 = 0 then t else advF t).2.2.2)))), zI (G.2.2.1 0) (ad 0) 602 g, zI (G.2.2.1 0) (ad 10) 60 ((if is9 = 0 then t else advF t).2.2.1), zQr (G.2.2.1 6) (ad 5) 4 (nmdF G)]) 36 [(0, .ref (ad 99)), (1, .int is9)] [] := by
    intro n9
    induction n9 with
    | zero => intro _ _ _ _ _ _ _ _ hm; exact absurd hm (Nat.not_lt_zero _)
    | succ n9 ih_36 =>
      intro f t is9 h1t h2t hf hE his hm_36
      refine z_iload_n hz dX10_sum_36 1 rfl rfl ?_
      refine z_if_le hz 84 dX10_sum_37 (by decide) (fun c1 => ?_) (fun c1 => ?_)
      · have h0 : is9 = 0 := sg_le his (by decide) c1
        rw [show (if is9 = 0 then t else advF t) = t from if_pos h0]
        refine z_bs (bs2 := [zO (ad 99) 10 (mFs ad (upd (upd (upd (upd (upd iv 8 (nI u)) 7 (nI d)) 6 (nI t.1)) 9 (zB (t.2.1 = true))) 11 (nI t.2.2.2))), zI (G.2.2.1 0) (ad 0) 602 g, zI (G.2.2.1 0) (ad 10) 60 t.2.2.1, zQr (G.2.2.1 6) (ad 5) 4 (nmdF G)]) rfl ?_
        have hend : lpF g n0 [(43, 20005), (45, 20006)] sub 51 (sub sp) = t := by rw [hE]; exact lp_end (by rw [← his]; exact h0) _
        exact z_vret hQ hz hr hlk dX10_sum_84 ⟨rfl, (by rw [hend])⟩
      · have h0 : ¬ is9 = 0 := fun h9 => c1 (by rw [h9]; decide)
        rw [show (if is9 = 0 then t else advF t) = advF t from if_neg h0]
        refine z_bs (bs2 := [zO (ad 99) 10 (mFs ad (upd (upd (upd (upd (upd iv 8 (nI u)) 7 (nI d)) 6 (nI ((advF t).1))) 9 (zB ((advF t).2.1 = true))) 11 (nI ((advF t).2.2.2)))), zI (G.2.2.1 0) (ad 0) 602 g, zI (G.2.2.1 0) (ad 10) 60 ((advF t).2.2.1), zQr (G.2.2.1 6) (ad 5) 4 (nmdF G)]) rfl ?_
        have hx : ¬ sgL [(43, 20005), (45, 20006)] (hereF g n0 t) = 0 := by rw [← his]; exact h0
        have hb := gd_step (g := g) (v := is9) hgd (L := [(43, 20005), (45, 20006)]) (by decide) h1t h2t hx
        have hq := hgd (advF t) (show t.1 + 1 ≤ n0 by have := hb.1; omega) (show t.2.2.2 ≤ t.1 + 1 by omega)
        refine z_aload_n hz dX10_sum_40 0 rfl rfl ?_
        refine z_callD (bs2 := [zO (ad 99) 10 (mFs ad (upd (upd (upd (upd (upd iv 8 (nI u)) 7 (nI d)) 6 (nI ((sub (advF t)).1))) 9 (zB ((sub (advF t)).2.1 = true))) 11 (nI ((sub (advF t)).2.2.2)))), zI (G.2.2.1 0) (ad 0) 602 g, zI (G.2.2.1 0) (ad 10) 60 ((sub (advF t)).2.2.1), zQr (G.2.2.1 6) (ad 5) 4 (nmdF G)]) (st2 := []) hz hA (zk_V hz (rm := (zRm f9 0 0 lo9)) (As := []) (rest := []) 0 q2170 q2172 qs51 q95 q2173 (by decide +kernel) ⟨by dsimp only [zRm]; omega, by dsimp only [zRm]; omega⟩ ⟨Nat.le_of_ble_eq_true rfl, Nat.le_of_ble_eq_true rfl⟩ (zRecv (q := (RX10, TX10, 29)) hz (zAt.mt 0 0 rfl rfl) rfl) rfl rfl (Nat.le_of_ble_eq_true rfl) dX10_sum_41) (hone (advF t) (show t.1 + 1 ≤ n0 by have := hb.1; omega) (show t.2.2.2 ≤ t.1 + 1 by omega)) [0, 1, 2, 3] rfl (by decide) rfl rfl ?_
        refine z_aload_n hz dX10_sum_44 0 rfl rfl ?_
        refine z_iload_n hz dX10_sum_45 1 rfl rfl ?_
        refine z_callD (bs2 := [zO (ad 99) 10 (mFs ad (upd (upd (upd (upd (upd iv 8 (nI u)) 7 (nI d)) 6 (nI ((emF is9 (sub (advF t))).1))) 9 (zB ((emF is9 (sub (advF t))).2.1 = true))) 11 (nI ((emF is9 (sub (advF t))).2.2.2)))), zI (G.2.2.1 0) (ad 0) 602 g, zI (G.2.2.1 0) (ad 10) 60 ((emF is9 (sub (advF t))).2.2.1), zQr (G.2.2.1 6) (ad 5) 4 (nmdF G)]) (st2 := []) hz hA (zk_V hz (rm := (zRm 0 0 0 0)) (As := [.int is9]) (rest := []) 1 q2182 q2184 qs54 q95 q2185 (by decide +kernel) ⟨by dsimp only [zRm]; omega, by dsimp only [zRm]; omega⟩ ⟨Nat.le_of_ble_eq_true rfl, Nat.le_of_ble_eq_true rfl⟩ (zRecv (q := (RX10, TX10, 29)) hz (zAt.mt 0 0 rfl rfl) rfl) rfl rfl (Nat.le_of_ble_eq_true rfl) dX10_sum_46) (mM_codes ad iv u d (sub (advF t)) is9 (by have := hb.2.2.2.2; have := hq.2.1; omega)) [0, 2] rfl (by decide) rfl rfl ?_
        refine z_bs (bs2 := [zO (ad 99) 10 (mFs ad (upd (upd (upd (upd (upd iv 8 (nI u)) 7 (nI d)) 6 (nI ((emF is9 (sub (advF t))).1))) 9 (zB ((emF is9 (sub (advF t))).2.1 = true))) 11 (nI ((emF is9 (sub (advF t))).2.2.2)))), zI (G.2.2.1 0) (ad 0) 602 g, zI (G.2.2.1 0) (ad 10) 60 ((emF is9 (sub (advF t))).2.2.1), zQr (G.2.2.1 6) (ad 5) 4 (nmdF G)]) rfl ?_
        refine z_aload_n hz dX10_sum_49 0 rfl rfl ?_
        refine z_bipush hz 43 dX10_sum_50 kb_43 ?_
        refine z_callD (bs2 := [zO (ad 99) 10 (mFs ad (upd (upd (upd (upd (upd iv 8 (nI u)) 7 (nI d)) 6 (nI ((tkF g n0 43 (emF is9 (sub (advF t)))).1))) 9 (zB ((tkF g n0 43 (emF is9 (sub (advF t)))).2.1 = true))) 11 (nI ((tkF g n0 43 (emF is9 (sub (advF t)))).2.2.2)))), zI (G.2.2.1 0) (ad 0) 602 g, zI (G.2.2.1 0) (ad 10) 60 ((emF is9 (sub (advF t))).2.2.1), zQr (G.2.2.1 6) (ad 5) 4 (nmdF G)]) (st2 := [.int (zB (hereF g n0 (emF is9 (sub (advF t))) = 43))]) hz hA (zk_V hz (rm := (zRm 1 0 0 30)) (As := [.int 43]) (rest := []) 1 q2186 q2188 qs55 q95 q2189 (by decide +kernel) ⟨by dsimp only [zRm]; omega, by dsimp only [zRm]; omega⟩ ⟨Nat.le_of_ble_eq_true rfl, Nat.le_of_ble_eq_true rfl⟩ (zRecv (q := (RX10, TX10, 29)) hz (zAt.mt 0 0 rfl rfl) rfl) rfl rfl (Nat.le_of_ble_eq_true rfl) dX10_sum_52) (mM_takes ad iv g n0 u d (emF is9 (sub (advF t))) hn6 hn50 hu hb.2.2.1 43) [0, 1] rfl (by decide) rfl rfl ?_
        refine z_ifB_eq hz 64 dX10_sum_55 (by decide) (fun c2 => ?_) (fun c2 => ?_)
        · rw [show tkF g n0 43 (emF is9 (sub (advF t))) = (emF is9 (sub (advF t))) from if_neg c2]
          refine z_bs (bs2 := [zO (ad 99) 10 (mFs ad (upd (upd (upd (upd (upd iv 8 (nI u)) 7 (nI d)) 6 (nI ((emF is9 (sub (advF t))).1))) 9 (zB ((emF is9 (sub (advF t))).2.1 = true))) 11 (nI ((emF is9 (sub (advF t))).2.2.2)))), zI (G.2.2.1 0) (ad 0) 602 g, zI (G.2.2.1 0) (ad 10) 60 ((emF is9 (sub (advF t))).2.2.1), zQr (G.2.2.1 6) (ad 5) 4 (nmdF G)]) rfl ?_
          refine z_aload_n hz dX10_sum_64 0 rfl rfl ?_
          refine z_bipush hz 45 dX10_sum_65 kb_45 ?_
          refine z_callD (bs2 := [zO (ad 99) 10 (mFs ad (upd (upd (upd (upd (upd iv 8 (nI u)) 7 (nI d)) 6 (nI ((tkF g n0 45 (emF is9 (sub (advF t)))).1))) 9 (zB ((tkF g n0 45 (emF is9 (sub (advF t)))).2.1 = true))) 11 (nI ((tkF g n0 45 (emF is9 (sub (advF t)))).2.2.2)))), zI (G.2.2.1 0) (ad 0) 602 g, zI (G.2.2.1 0) (ad 10) 60 ((emF is9 (sub (advF t))).2.2.1), zQr (G.2.2.1 6) (ad 5) 4 (nmdF G)]) (st2 := [.int (zB (hereF g n0 (emF is9 (sub (advF t))) = 45))]) hz hA (zk_V hz (rm := (zRm 1 0 0 30)) (As := [.int 45]) (rest := []) 1 q2186 q2188 qs55 q95 q2189 (by decide +kernel) ⟨by dsimp only [zRm]; omega, by dsimp only [zRm]; omega⟩ ⟨Nat.le_of_ble_eq_true rfl, Nat.le_of_ble_eq_true rfl⟩ (zRecv (q := (RX10, TX10, 29)) hz (zAt.mt 0 0 rfl rfl) rfl) rfl rfl (Nat.le_of_ble_eq_true rfl) dX10_sum_67) (mM_takes ad iv g n0 u d (emF is9 (sub (advF t))) hn6 hn50 hu hb.2.2.1 45) [0, 1] rfl (by decide) rfl rfl ?_
          refine z_ifB_eq hz 79 dX10_sum_70 (by decide) (fun c3 => ?_) (fun c3 => ?_)
          · rw [show tkF g n0 45 (emF is9 (sub (advF t))) = (emF is9 (sub (advF t))) from if_neg c3]
            refine z_bs (bs2 := [zO (ad 99) 10 (mFs ad (upd (upd (upd (upd (upd iv 8 (nI u)) 7 (nI d)) 6 (nI ((emF is9 (sub (advF t))).1))) 9 (zB ((emF is9 (sub (advF t))).2.1 = true))) 11 (nI ((emF is9 (sub (advF t))).2.2.2)))), zI (G.2.2.1 0) (ad 0) 602 g, zI (G.2.2.1 0) (ad 10) 60 ((emF is9 (sub (advF t))).2.2.1), zQr (G.2.2.1 6) (ad 5) 4 (nmdF G)]) rfl ?_
            refine z_iconst hz 0 dX10_sum_79 ki_0 ?_
            refine z_istore_n (lv' := [(0, .ref (ad 99)), (1, .int 0)]) hz [1, 0] dX10_sum_80 rfl (by decide) rfl ?_
            refine z_goto hz 36 dX10_sum_81 (by decide) ?_
            refine z_bs (bs2 := [zO (ad 99) 10 (mFs ad (upd (upd (upd (upd (upd iv 8 (nI u)) 7 (nI d)) 6 (nI ((if (0 : Int32) = 0 then (emF is9 (sub (advF t))) else advF (emF is9 (sub (advF t)))).1))) 9 (zB ((if (0 : Int32) = 0 then (emF is9 (sub (advF t))) else advF (emF is9 (sub (advF t)))).2.1 = true))) 11 (nI ((if (0 : Int32) = 0 then (emF is9 (sub (advF t))) else advF (emF is9 (sub (advF t)))).2.2.2)))), zI (G.2.2.1 0) (ad 0) 602 g, zI (G.2.2.1 0) (ad 10) 60 ((if (0 : Int32) = 0 then (emF is9 (sub (advF t))) else advF (emF is9 (sub (advF t)))).2.2.1), zQr (G.2.2.1 6) (ad 5) 4 (nmdF G)]) (by rw [show (if (0 : Int32) = 0 then (emF is9 (sub (advF t))) else advF (emF is9 (sub (advF t)))) = (emF is9 (sub (advF t))) from if_pos rfl]) ?_
            exact ih_36 (f - 1) (emF is9 (sub (advF t))) 0 hb.2.2.1 (by have := hb.2.2.2.1; omega) (by have := hb.2.1; omega) (by rw [hE, show f = (f - 1) + 1 by omega]; simp only [lpF]; rw [if_neg hx, ← his]; rfl) (by simp only [sgL]; rw [if_neg c2, if_neg c3]) (by omega)
          · rw [show tkF g n0 45 (emF is9 (sub (advF t))) = advF (emF is9 (sub (advF t))) from if_pos c3]
            refine z_bs (bs2 := [zO (ad 99) 10 (mFs ad (upd (upd (upd (upd (upd iv 8 (nI u)) 7 (nI d)) 6 (nI ((advF (emF is9 (sub (advF t)))).1))) 9 (zB ((advF (emF is9 (sub (advF t)))).2.1 = true))) 11 (nI ((advF (emF is9 (sub (advF t)))).2.2.2)))), zI (G.2.2.1 0) (ad 0) 602 g, zI (G.2.2.1 0) (ad 10) 60 ((advF (emF is9 (sub (advF t)))).2.2.1), zQr (G.2.2.1 6) (ad 5) 4 (nmdF G)]) rfl ?_
            refine z_sipush hz 20006 dX10_sum_73 ks_20006 ?_
            refine z_goto hz 80 dX10_sum_76 (by decide) ?_
            refine z_istore_n (lv' := [(0, .ref (ad 99)), (1, .int 20006)]) hz [1, 0] dX10_sum_80 rfl (by decide) rfl ?_
            refine z_goto hz 36 dX10_sum_81 (by decide) ?_
            refine z_bs (bs2 := [zO (ad 99) 10 (mFs ad (upd (upd (upd (upd (upd iv 8 (nI u)) 7 (nI d)) 6 (nI ((if (20006 : Int32) = 0 then (emF is9 (sub (advF t))) else advF (emF is9 (sub (advF t)))).1))) 9 (zB ((if (20006 : Int32) = 0 then (emF is9 (sub (advF t))) else advF (emF is9 (sub (advF t)))).2.1 = true))) 11 (nI ((if (20006 : Int32) = 0 then (emF is9 (sub (advF t))) else advF (emF is9 (sub (advF t)))).2.2.2)))), zI (G.2.2.1 0) (ad 0) 602 g, zI (G.2.2.1 0) (ad 10) 60 ((if (20006 : Int32) = 0 then (emF is9 (sub (advF t))) else advF (emF is9 (sub (advF t)))).2.2.1), zQr (G.2.2.1 6) (ad 5) 4 (nmdF G)]) (by rw [show (if (20006 : Int32) = 0 then (emF is9 (sub (advF t))) else advF (emF is9 (sub (advF t)))) = (advF (emF is9 (sub (advF t)))) from if_neg (by decide)]) ?_
            exact ih_36 (f - 1) (emF is9 (sub (advF t))) 20006 hb.2.2.1 (by have := hb.2.2.2.1; omega) (by have := hb.2.1; omega) (by rw [hE, show f = (f - 1) + 1 by omega]; simp only [lpF]; rw [if_neg hx, ← his]; rfl) (by simp only [sgL]; rw [if_neg c2, if_pos c3]) (by omega)
        · rw [show tkF g n0 43 (emF is9 (sub (advF t))) = advF (emF is9 (sub (advF t))) from if_pos c2]
          refine z_bs (bs2 := [zO (ad 99) 10 (mFs ad (upd (upd (upd (upd (upd iv 8 (nI u)) 7 (nI d)) 6 (nI ((advF (emF is9 (sub (advF t)))).1))) 9 (zB ((advF (emF is9 (sub (advF t)))).2.1 = true))) 11 (nI ((advF (emF is9 (sub (advF t)))).2.2.2)))), zI (G.2.2.1 0) (ad 0) 602 g, zI (G.2.2.1 0) (ad 10) 60 ((advF (emF is9 (sub (advF t)))).2.2.1), zQr (G.2.2.1 6) (ad 5) 4 (nmdF G)]) rfl ?_
          refine z_sipush hz 20005 dX10_sum_58 ks_20005 ?_
          refine z_goto hz 80 dX10_sum_61 (by decide) ?_
          refine z_istore_n (lv' := [(0, .ref (ad 99)), (1, .int 20005)]) hz [1, 0] dX10_sum_80 rfl (by decide) rfl ?_
          refine z_goto hz 36 dX10_sum_81 (by decide) ?_
          refine z_bs (bs2 := [zO (ad 99) 10 (mFs ad (upd (upd (upd (upd (upd iv 8 (nI u)) 7 (nI d)) 6 (nI ((if (20005 : Int32) = 0 then (emF is9 (sub (advF t))) else advF (emF is9 (sub (advF t)))).1))) 9 (zB ((if (20005 : Int32) = 0 then (emF is9 (sub (advF t))) else advF (emF is9 (sub (advF t)))).2.1 = true))) 11 (nI ((if (20005 : Int32) = 0 then (emF is9 (sub (advF t))) else advF (emF is9 (sub (advF t)))).2.2.2)))), zI (G.2.2.1 0) (ad 0) 602 g, zI (G.2.2.1 0) (ad 10) 60 ((if (20005 : Int32) = 0 then (emF is9 (sub (advF t))) else advF (emF is9 (sub (advF t)))).2.2.1), zQr (G.2.2.1 6) (ad 5) 4 (nmdF G)]) (by rw [show (if (20005 : Int32) = 0 then (emF is9 (sub (advF t))) else advF (emF is9 (sub (advF t)))) = (advF (emF is9 (sub (advF t)))) from if_neg (by decide)]) ?_
          exact ih_36 (f - 1) (emF is9 (sub (advF t))) 20005 hb.2.2.1 (by have := hb.2.2.2.1; omega) (by have := hb.2.1; omega) (by rw [hE, show f = (f - 1) + 1 by omega]; simp only [lpF]; rw [if_neg hx, ← his]; rfl) (by simp only [sgL]; rw [if_pos c2]) (by omega)
  refine z_aload_n hz dX10_sum_0 0 rfl rfl ?_
  refine z_callD (bs2 := [zO (ad 99) 10 (mFs ad (upd (upd (upd (upd (upd iv 8 (nI u)) 7 (nI d)) 6 (nI ((sub sp).1))) 9 (zB ((sub sp).2.1 = true))) 11 (nI ((sub sp).2.2.2)))), zI (G.2.2.1 0) (ad 0) 602 g, zI (G.2.2.1 0) (ad 10) 60 ((sub sp).2.2.1), zQr (G.2.2.1 6) (ad 5) 4 (nmdF G)]) (st2 := []) hz hA (zk_V hz (rm := (zRm f9 0 0 lo9)) (As := []) (rest := []) 0 q2170 q2172 qs51 q95 q2173 (by decide +kernel) ⟨by dsimp only [zRm]; omega, by dsimp only [zRm]; omega⟩ ⟨Nat.le_of_ble_eq_true rfl, Nat.le_of_ble_eq_true rfl⟩ (zRecv (q := (RX10, TX10, 29)) hz (zAt.mt 0 0 rfl rfl) rfl) rfl rfl (Nat.le_of_ble_eq_true rfl) dX10_sum_1) (hone sp h1 h2) [0, 1, 2, 3] rfl (by decide) rfl rfl ?_
  refine z_aload_n hz dX10_sum_4 0 rfl rfl ?_
  refine z_bipush hz 43 dX10_sum_5 kb_43 ?_
  refine z_callD (bs2 := [zO (ad 99) 10 (mFs ad (upd (upd (upd (upd (upd iv 8 (nI u)) 7 (nI d)) 6 (nI ((tkF g n0 43 (sub sp)).1))) 9 (zB ((tkF g n0 43 (sub sp)).2.1 = true))) 11 (nI ((tkF g n0 43 (sub sp)).2.2.2)))), zI (G.2.2.1 0) (ad 0) 602 g, zI (G.2.2.1 0) (ad 10) 60 ((sub sp).2.2.1), zQr (G.2.2.1 6) (ad 5) 4 (nmdF G)]) (st2 := [.int (zB (hereF g n0 (sub sp) = 43))]) hz hA (zk_V hz (rm := (zRm 1 0 0 30)) (As := [.int 43]) (rest := []) 1 q2186 q2188 qs55 q95 q2189 (by decide +kernel) ⟨by dsimp only [zRm]; omega, by dsimp only [zRm]; omega⟩ ⟨Nat.le_of_ble_eq_true rfl, Nat.le_of_ble_eq_true rfl⟩ (zRecv (q := (RX10, TX10, 29)) hz (zAt.mt 0 0 rfl rfl) rfl) rfl rfl (Nat.le_of_ble_eq_true rfl) dX10_sum_7) (mM_takes ad iv g n0 u d (sub sp) hn6 hn50 hu hs.2.1 43) [0, 1] rfl (by decide) rfl rfl ?_
  refine z_ifB_eq hz 19 dX10_sum_10 (by decide) (fun c4 => ?_) (fun c4 => ?_)
  · rw [show tkF g n0 43 (sub sp) = (sub sp) from if_neg c4]
    refine z_bs (bs2 := [zO (ad 99) 10 (mFs ad (upd (upd (upd (upd (upd iv 8 (nI u)) 7 (nI d)) 6 (nI ((sub sp).1))) 9 (zB ((sub sp).2.1 = true))) 11 (nI ((sub sp).2.2.2)))), zI (G.2.2.1 0) (ad 0) 602 g, zI (G.2.2.1 0) (ad 10) 60 ((sub sp).2.2.1), zQr (G.2.2.1 6) (ad 5) 4 (nmdF G)]) rfl ?_
    refine z_aload_n hz dX10_sum_19 0 rfl rfl ?_
    refine z_bipush hz 45 dX10_sum_20 kb_45 ?_
    refine z_callD (bs2 := [zO (ad 99) 10 (mFs ad (upd (upd (upd (upd (upd iv 8 (nI u)) 7 (nI d)) 6 (nI ((tkF g n0 45 (sub sp)).1))) 9 (zB ((tkF g n0 45 (sub sp)).2.1 = true))) 11 (nI ((tkF g n0 45 (sub sp)).2.2.2)))), zI (G.2.2.1 0) (ad 0) 602 g, zI (G.2.2.1 0) (ad 10) 60 ((sub sp).2.2.1), zQr (G.2.2.1 6) (ad 5) 4 (nmdF G)]) (st2 := [.int (zB (hereF g n0 (sub sp) = 45))]) hz hA (zk_V hz (rm := (zRm 1 0 0 30)) (As := [.int 45]) (rest := []) 1 q2186 q2188 qs55 q95 q2189 (by decide +kernel) ⟨by dsimp only [zRm]; omega, by dsimp only [zRm]; omega⟩ ⟨Nat.le_of_ble_eq_true rfl, Nat.le_of_ble_eq_true rfl⟩ (zRecv (q := (RX10, TX10, 29)) hz (zAt.mt 0 0 rfl rfl) rfl) rfl rfl (Nat.le_of_ble_eq_true rfl) dX10_sum_22) (mM_takes ad iv g n0 u d (sub sp) hn6 hn50 hu hs.2.1 45) [0, 1] rfl (by decide) rfl rfl ?_
    refine z_ifB_eq hz 34 dX10_sum_25 (by decide) (fun c5 => ?_) (fun c5 => ?_)
    · rw [show tkF g n0 45 (sub sp) = (sub sp) from if_neg c5]
      refine z_bs (bs2 := [zO (ad 99) 10 (mFs ad (upd (upd (upd (upd (upd iv 8 (nI u)) 7 (nI d)) 6 (nI ((sub sp).1))) 9 (zB ((sub sp).2.1 = true))) 11 (nI ((sub sp).2.2.2)))), zI (G.2.2.1 0) (ad 0) 602 g, zI (G.2.2.1 0) (ad 10) 60 ((sub sp).2.2.1), zQr (G.2.2.1 6) (ad 5) 4 (nmdF G)]) rfl ?_
      refine z_iconst hz 0 dX10_sum_34 ki_0 ?_
      refine z_istore_n (lv' := [(0, .ref (ad 99)), (1, .int 0)]) hz [1, 0] dX10_sum_35 rfl (by decide) rfl ?_
      refine z_bs (bs2 := [zO (ad 99) 10 (mFs ad (upd (upd (upd (upd (upd iv 8 (nI u)) 7 (nI d)) 6 (nI ((if (0 : Int32) = 0 then (sub sp) else advF (sub sp)).1))) 9 (zB ((if (0 : Int32) = 0 then (sub sp) else advF (sub sp)).2.1 = true))) 11 (nI ((if (0 : Int32) = 0 then (sub sp) else advF (sub sp)).2.2.2)))), zI (G.2.2.1 0) (ad 0) 602 g, zI (G.2.2.1 0) (ad 10) 60 ((if (0 : Int32) = 0 then (sub sp) else advF (sub sp)).2.2.1), zQr (G.2.2.1 6) (ad 5) 4 (nmdF G)]) (by rw [show (if (0 : Int32) = 0 then (sub sp) else advF (sub sp)) = (sub sp) from if_pos rfl]) ?_
      exact lp_36 ((51) + 1) 51 (sub sp) 0 hs.2.1 (by have := hs.2.2; have := hs.1; omega) (by omega) rfl (by simp only [sgL]; rw [if_neg c4, if_neg c5]) (Nat.lt_succ_self _)
    · rw [show tkF g n0 45 (sub sp) = advF (sub sp) from if_pos c5]
      refine z_bs (bs2 := [zO (ad 99) 10 (mFs ad (upd (upd (upd (upd (upd iv 8 (nI u)) 7 (nI d)) 6 (nI ((advF (sub sp)).1))) 9 (zB ((advF (sub sp)).2.1 = true))) 11 (nI ((advF (sub sp)).2.2.2)))), zI (G.2.2.1 0) (ad 0) 602 g, zI (G.2.2.1 0) (ad 10) 60 ((advF (sub sp)).2.2.1), zQr (G.2.2.1 6) (ad 5) 4 (nmdF G)]) rfl ?_
      refine z_sipush hz 20006 dX10_sum_28 ks_20006 ?_
      refine z_goto hz 35 dX10_sum_31 (by decide) ?_
      refine z_istore_n (lv' := [(0, .ref (ad 99)), (1, .int 20006)]) hz [1, 0] dX10_sum_35 rfl (by decide) rfl ?_
      refine z_bs (bs2 := [zO (ad 99) 10 (mFs ad (upd (upd (upd (upd (upd iv 8 (nI u)) 7 (nI d)) 6 (nI ((if (20006 : Int32) = 0 then (sub sp) else advF (sub sp)).1))) 9 (zB ((if (20006 : Int32) = 0 then (sub sp) else advF (sub sp)).2.1 = true))) 11 (nI ((if (20006 : Int32) = 0 then (sub sp) else advF (sub sp)).2.2.2)))), zI (G.2.2.1 0) (ad 0) 602 g, zI (G.2.2.1 0) (ad 10) 60 ((if (20006 : Int32) = 0 then (sub sp) else advF (sub sp)).2.2.1), zQr (G.2.2.1 6) (ad 5) 4 (nmdF G)]) (by rw [show (if (20006 : Int32) = 0 then (sub sp) else advF (sub sp)) = (advF (sub sp)) from if_neg (by decide)]) ?_
      exact lp_36 ((51) + 1) 51 (sub sp) 20006 hs.2.1 (by have := hs.2.2; have := hs.1; omega) (by omega) rfl (by simp only [sgL]; rw [if_neg c4, if_pos c5]) (Nat.lt_succ_self _)
  · rw [show tkF g n0 43 (sub sp) = advF (sub sp) from if_pos c4]
    refine z_bs (bs2 := [zO (ad 99) 10 (mFs ad (upd (upd (upd (upd (upd iv 8 (nI u)) 7 (nI d)) 6 (nI ((advF (sub sp)).1))) 9 (zB ((advF (sub sp)).2.1 = true))) 11 (nI ((advF (sub sp)).2.2.2)))), zI (G.2.2.1 0) (ad 0) 602 g, zI (G.2.2.1 0) (ad 10) 60 ((advF (sub sp)).2.2.1), zQr (G.2.2.1 6) (ad 5) 4 (nmdF G)]) rfl ?_
    refine z_sipush hz 20005 dX10_sum_13 ks_20005 ?_
    refine z_goto hz 35 dX10_sum_16 (by decide) ?_
    refine z_istore_n (lv' := [(0, .ref (ad 99)), (1, .int 20005)]) hz [1, 0] dX10_sum_35 rfl (by decide) rfl ?_
    refine z_bs (bs2 := [zO (ad 99) 10 (mFs ad (upd (upd (upd (upd (upd iv 8 (nI u)) 7 (nI d)) 6 (nI ((if (20005 : Int32) = 0 then (sub sp) else advF (sub sp)).1))) 9 (zB ((if (20005 : Int32) = 0 then (sub sp) else advF (sub sp)).2.1 = true))) 11 (nI ((if (20005 : Int32) = 0 then (sub sp) else advF (sub sp)).2.2.2)))), zI (G.2.2.1 0) (ad 0) 602 g, zI (G.2.2.1 0) (ad 10) 60 ((if (20005 : Int32) = 0 then (sub sp) else advF (sub sp)).2.2.1), zQr (G.2.2.1 6) (ad 5) 4 (nmdF G)]) (by rw [show (if (20005 : Int32) = 0 then (sub sp) else advF (sub sp)) = (advF (sub sp)) from if_neg (by decide)]) ?_
    exact lp_36 ((51) + 1) 51 (sub sp) 20005 hs.2.1 (by have := hs.2.2; have := hs.1; omega) (by omega) rfl (by simp only [sgL]; rw [if_pos c4]) (Nat.lt_succ_self _)
set_option maxHeartbeats 2000000 in
theorem mM_compared {G : zG} (ad : Nat → Nat) (iv g : Nat → Int32) (n0 u d : Nat) (sp : zP) (hn6 : g 6 = nI n0) (hn50 : n0 ≤ 50) (hu : u < 4) (f9 lo9 : Nat) (hf9 : 1 ≤ f9) (hlo9 : 60 ≤ lo9) (sub : zP → zP) (hgd : gdP n0 sub) (hone : ∀ sp : zP, sp.1 ≤ n0 → sp.2.2.2 ≤ sp.1 → zMet G yX10_sum (ws_ yX10_sum cX10_sum 2 none) (zRm f9 0 0 lo9) [.ref (ad 99)] [zO (ad 99) 10 (mFs ad (upd (upd (upd (upd (upd iv 8 (nI u)) 7 (nI d)) 6 (nI sp.1)) 9 (zB (sp.2.1 = true))) 11 (nI sp.2.2.2))), zI (G.2.2.1 0) (ad 0) 602 g, zI (G.2.2.1 0) (ad 10) 60 sp.2.2.1, zQr (G.2.2.1 6) (ad 5) 4 (nmdF G)] (fun v9 b9 => v9 = none ∧ b9 = [zO (ad 99) 10 (mFs ad (upd (upd (upd (upd (upd iv 8 (nI u)) 7 (nI d)) 6 (nI ((sub sp).1))) 9 (zB ((sub sp).2.1 = true))) 11 (nI ((sub sp).2.2.2)))), zI (G.2.2.1 0) (ad 0) 602 g, zI (G.2.2.1 0) (ad 10) 60 ((sub sp).2.2.1), zQr (G.2.2.1 6) (ad 5) 4 (nmdF G)])) (h1 : sp.1 ≤ n0) (h2 : sp.2.2.2 ≤ sp.1) : zMet G yX10_compared (ws_ yX10_compared cX10_compared 2 none) (zRm (f9 + 1) 0 0 (lo9 + 60)) [.ref (ad 99)] [zO (ad 99) 10 (mFs ad (upd (upd (upd (upd (upd iv 8 (nI u)) 7 (nI d)) 6 (nI sp.1)) 9 (zB (sp.2.1 = true))) 11 (nI sp.2.2.2))), zI (G.2.2.1 0) (ad 0) 602 g, zI (G.2.2.1 0) (ad 10) 60 sp.2.2.1, zQr (G.2.2.1 6) (ad 5) 4 (nmdF G)] (fun v9 b9 => v9 = none ∧ b9 = [zO (ad 99) 10 (mFs ad (upd (upd (upd (upd (upd iv 8 (nI u)) 7 (nI d)) 6 (nI ((if sgL [(60, 20002), (61, 20003), (62, 20004)] (hereF g n0 (sub sp)) = 0 then (sub sp) else emF (sgL [(60, 20002), (61, 20003), (62, 20004)] (hereF g n0 (sub sp))) (sub (advF (sub sp)))).1))) 9 (zB ((if sgL [(60, 20002), (61, 20003), (62, 20004)] (hereF g n0 (sub sp)) = 0 then (sub sp) else emF (sgL [(60, 20002), (61, 20003), (62, 20004)] (hereF g n0 (sub sp))) (sub (advF (sub sp)))).2.1 = true))) 11 (nI ((if sgL [(60, 20002), (61, 20003), (62, 20004)] (hereF g n0 (sub sp)) = 0 then (sub sp) else emF (sgL [(60, 20002), (61, 20003), (62, 20004)] (hereF g n0 (sub sp))) (sub (advF (sub sp)))).2.2.2)))), zI (G.2.2.1 0) (ad 0) 602 g, zI (G.2.2.1 0) (ad 10) 60 ((if sgL [(60, 20002), (61, 20003), (62, 20004)] (hereF g n0 (sub sp)) = 0 then (sub sp) else emF (sgL [(60, 20002), (61, 20003), (62, 20004)] (hereF g n0 (sub sp))) (sub (advF (sub sp)))).2.2.1), zQr (G.2.2.1 6) (ad 5) 4 (nmdF G)]) := by
  refine zMet.of (by decide +kernel) (Nat.le_of_ble_eq_true rfl) ?_
  intro p e s m args below meth c A hz hA hr hlk hnm9 Q hQ
  refine z_lv (lv' := [(0, .ref (ad 99))]) [0] rfl ?_
  have hs := hgd sp h1 h2
  refine z_aload_n hz dX10_compared_0 0 rfl rfl ?_
  refine z_callD (bs2 := [zO (ad 99) 10 (mFs ad (upd (upd (upd (upd (upd iv 8 (nI u)) 7 (nI d)) 6 (nI ((sub sp).1))) 9 (zB ((sub sp).2.1 = true))) 11 (nI ((sub sp).2.2.2)))), zI (G.2.2.1 0) (ad 0) 602 g, zI (G.2.2.1 0) (ad 10) 60 ((sub sp).2.2.1), zQr (G.2.2.1 6) (ad 5) 4 (nmdF G)]) (st2 := []) hz hA (zk_V hz (rm := (zRm f9 0 0 lo9)) (As := []) (rest := []) 0 q2166 q2168 qs50 q95 q2169 (by decide +kernel) ⟨by dsimp only [zRm]; omega, by dsimp only [zRm]; omega⟩ ⟨Nat.le_of_ble_eq_true rfl, Nat.le_of_ble_eq_true rfl⟩ (zRecv (q := (RX10, TX10, 29)) hz (zAt.mt 0 0 rfl rfl) rfl) rfl rfl (Nat.le_of_ble_eq_true rfl) dX10_compared_1) (hone sp h1 h2) [0, 1, 2, 3] rfl (by decide) rfl rfl ?_
  refine z_aload_n hz dX10_compared_4 0 rfl rfl ?_
  refine z_bipush hz 60 dX10_compared_5 kb_60 ?_
  refine z_callD (bs2 := [zO (ad 99) 10 (mFs ad (upd (upd (upd (upd (upd iv 8 (nI u)) 7 (nI d)) 6 (nI ((tkF g n0 60 (sub sp)).1))) 9 (zB ((tkF g n0 60 (sub sp)).2.1 = true))) 11 (nI ((tkF g n0 60 (sub sp)).2.2.2)))), zI (G.2.2.1 0) (ad 0) 602 g, zI (G.2.2.1 0) (ad 10) 60 ((sub sp).2.2.1), zQr (G.2.2.1 6) (ad 5) 4 (nmdF G)]) (st2 := [.int (zB (hereF g n0 (sub sp) = 60))]) hz hA (zk_V hz (rm := (zRm 1 0 0 30)) (As := [.int 60]) (rest := []) 1 q2186 q2188 qs55 q95 q2189 (by decide +kernel) ⟨by dsimp only [zRm]; omega, by dsimp only [zRm]; omega⟩ ⟨Nat.le_of_ble_eq_true rfl, Nat.le_of_ble_eq_true rfl⟩ (zRecv (q := (RX10, TX10, 29)) hz (zAt.mt 0 0 rfl rfl) rfl) rfl rfl (Nat.le_of_ble_eq_true rfl) dX10_compared_7) (mM_takes ad iv g n0 u d (sub sp) hn6 hn50 hu hs.2.1 60) [0, 1] rfl (by decide) rfl rfl ?_
  refine z_ifB_eq hz 19 dX10_compared_10 (by decide) (fun c1 => ?_) (fun c1 => ?_)
  · rw [show tkF g n0 60 (sub sp) = (sub sp) from if_neg c1]
    refine z_bs (bs2 := [zO (ad 99) 10 (mFs ad (upd (upd (upd (upd (upd iv 8 (nI u)) 7 (nI d)) 6 (nI ((sub sp).1))) 9 (zB ((sub sp).2.1 = true))) 11 (nI ((sub sp).2.2.2)))), zI (G.2.2.1 0) (ad 0) 602 g, zI (G.2.2.1 0) (ad 10) 60 ((sub sp).2.2.1), zQr (G.2.2.1 6) (ad 5) 4 (nmdF G)]) rfl ?_
    refine z_aload_n hz dX10_compared_19 0 rfl rfl ?_
    refine z_bipush hz 61 dX10_compared_20 kb_61 ?_
    refine z_callD (bs2 := [zO (ad 99) 10 (mFs ad (upd (upd (upd (upd (upd iv 8 (nI u)) 7 (nI d)) 6 (nI ((tkF g n0 61 (sub sp)).1))) 9 (zB ((tkF g n0 61 (sub sp)).2.1 = true))) 11 (nI ((tkF g n0 61 (sub sp)).2.2.2)))), zI (G.2.2.1 0) (ad 0) 602 g, zI (G.2.2.1 0) (ad 10) 60 ((sub sp).2.2.1), zQr (G.2.2.1 6) (ad 5) 4 (nmdF G)]) (st2 := [.int (zB (hereF g n0 (sub sp) = 61))]) hz hA (zk_V hz (rm := (zRm 1 0 0 30)) (As := [.int 61]) (rest := []) 1 q2186 q2188 qs55 q95 q2189 (by decide +kernel) ⟨by dsimp only [zRm]; omega, by dsimp only [zRm]; omega⟩ ⟨Nat.le_of_ble_eq_true rfl, Nat.le_of_ble_eq_true rfl⟩ (zRecv (q := (RX10, TX10, 29)) hz (zAt.mt 0 0 rfl rfl) rfl) rfl rfl (Nat.le_of_ble_eq_true rfl) dX10_compared_22) (mM_takes ad iv g n0 u d (sub sp) hn6 hn50 hu hs.2.1 61) [0, 1] rfl (by decide) rfl rfl ?_
    refine z_ifB_eq hz 34 dX10_compared_25 (by decide) (fun c2 => ?_) (fun c2 => ?_)
    · rw [show tkF g n0 61 (sub sp) = (sub sp) from if_neg c2]
      refine z_bs (bs2 := [zO (ad 99) 10 (mFs ad (upd (upd (upd (upd (upd iv 8 (nI u)) 7 (nI d)) 6 (nI ((sub sp).1))) 9 (zB ((sub sp).2.1 = true))) 11 (nI ((sub sp).2.2.2)))), zI (G.2.2.1 0) (ad 0) 602 g, zI (G.2.2.1 0) (ad 10) 60 ((sub sp).2.2.1), zQr (G.2.2.1 6) (ad 5) 4 (nmdF G)]) rfl ?_
      refine z_aload_n hz dX10_compared_34 0 rfl rfl ?_
      refine z_bipush hz 62 dX10_compared_35 kb_62 ?_
      refine z_callD (bs2 := [zO (ad 99) 10 (mFs ad (upd (upd (upd (upd (upd iv 8 (nI u)) 7 (nI d)) 6 (nI ((tkF g n0 62 (sub sp)).1))) 9 (zB ((tkF g n0 62 (sub sp)).2.1 = true))) 11 (nI ((tkF g n0 62 (sub sp)).2.2.2)))), zI (G.2.2.1 0) (ad 0) 602 g, zI (G.2.2.1 0) (ad 10) 60 ((sub sp).2.2.1), zQr (G.2.2.1 6) (ad 5) 4 (nmdF G)]) (st2 := [.int (zB (hereF g n0 (sub sp) = 62))]) hz hA (zk_V hz (rm := (zRm 1 0 0 30)) (As := [.int 62]) (rest := []) 1 q2186 q2188 qs55 q95 q2189 (by decide +kernel) ⟨by dsimp only [zRm]; omega, by dsimp only [zRm]; omega⟩ ⟨Nat.le_of_ble_eq_true rfl, Nat.le_of_ble_eq_true rfl⟩ (zRecv (q := (RX10, TX10, 29)) hz (zAt.mt 0 0 rfl rfl) rfl) rfl rfl (Nat.le_of_ble_eq_true rfl) dX10_compared_37) (mM_takes ad iv g n0 u d (sub sp) hn6 hn50 hu hs.2.1 62) [0, 1] rfl (by decide) rfl rfl ?_
      refine z_ifB_eq hz 49 dX10_compared_40 (by decide) (fun c3 => ?_) (fun c3 => ?_)
      · rw [show tkF g n0 62 (sub sp) = (sub sp) from if_neg c3]
        refine z_bs (bs2 := [zO (ad 99) 10 (mFs ad (upd (upd (upd (upd (upd iv 8 (nI u)) 7 (nI d)) 6 (nI ((sub sp).1))) 9 (zB ((sub sp).2.1 = true))) 11 (nI ((sub sp).2.2.2)))), zI (G.2.2.1 0) (ad 0) 602 g, zI (G.2.2.1 0) (ad 10) 60 ((sub sp).2.2.1), zQr (G.2.2.1 6) (ad 5) 4 (nmdF G)]) rfl ?_
        refine z_iconst hz 0 dX10_compared_49 ki_0 ?_
        refine z_istore_n (lv' := [(0, .ref (ad 99)), (1, .int 0)]) hz [1, 0] dX10_compared_50 rfl (by decide) rfl ?_
        refine z_iload_n hz dX10_compared_51 1 rfl rfl ?_
        refine z_if_leT hz 64 dX10_compared_52 (by decide) (by decide) ?_
        exact z_vret hQ hz hr hlk dX10_compared_64 ⟨rfl, (by rw [if_pos (by simp only [sgL]; rw [if_neg c1, if_neg c2, if_neg c3])])⟩
      · rw [show tkF g n0 62 (sub sp) = advF (sub sp) from if_pos c3]
        refine z_bs (bs2 := [zO (ad 99) 10 (mFs ad (upd (upd (upd (upd (upd iv 8 (nI u)) 7 (nI d)) 6 (nI ((advF (sub sp)).1))) 9 (zB ((advF (sub sp)).2.1 = true))) 11 (nI ((advF (sub sp)).2.2.2)))), zI (G.2.2.1 0) (ad 0) 602 g, zI (G.2.2.1 0) (ad 10) 60 ((advF (sub sp)).2.2.1), zQr (G.2.2.1 6) (ad 5) 4 (nmdF G)]) rfl ?_
        refine z_sipush hz 20004 dX10_compared_43 ks_20004 ?_
        refine z_goto hz 50 dX10_compared_46 (by decide) ?_
        refine z_istore_n (lv' := [(0, .ref (ad 99)), (1, .int 20004)]) hz [1, 0] dX10_compared_50 rfl (by decide) rfl ?_
        refine z_iload_n hz dX10_compared_51 1 rfl rfl ?_
        refine z_if_leF hz 64 dX10_compared_52 (by decide) (by decide) ?_
        have hv : sgL [(60, 20002), (61, 20003), (62, 20004)] (hereF g n0 (sub sp)) = 20004 := (by simp only [sgL]; rw [if_neg c1, if_neg c2, if_pos c3])
        have hx : ¬ sgL [(60, 20002), (61, 20003), (62, 20004)] (hereF g n0 (sub sp)) = 0 := by rw [hv]; decide
        have hb := gd_step (g := g) (v := 20004) hgd (L := [(60, 20002), (61, 20003), (62, 20004)]) (by decide) hs.2.1 (by have := hs.2.2; have := hs.1; omega) hx
        have hq := hgd (advF (sub sp)) (show (sub sp).1 + 1 ≤ n0 by have := hb.1; omega) (show (sub sp).2.2.2 ≤ (sub sp).1 + 1 by have := hs.2.2; have := hs.1; omega)
        refine z_aload_n hz dX10_compared_55 0 rfl rfl ?_
        refine z_callD (bs2 := [zO (ad 99) 10 (mFs ad (upd (upd (upd (upd (upd iv 8 (nI u)) 7 (nI d)) 6 (nI ((sub (advF (sub sp))).1))) 9 (zB ((sub (advF (sub sp))).2.1 = true))) 11 (nI ((sub (advF (sub sp))).2.2.2)))), zI (G.2.2.1 0) (ad 0) 602 g, zI (G.2.2.1 0) (ad 10) 60 ((sub (advF (sub sp))).2.2.1), zQr (G.2.2.1 6) (ad 5) 4 (nmdF G)]) (st2 := []) hz hA (zk_V hz (rm := (zRm f9 0 0 lo9)) (As := []) (rest := []) 0 q2166 q2168 qs50 q95 q2169 (by decide +kernel) ⟨by dsimp only [zRm]; omega, by dsimp only [zRm]; omega⟩ ⟨Nat.le_of_ble_eq_true rfl, Nat.le_of_ble_eq_true rfl⟩ (zRecv (q := (RX10, TX10, 29)) hz (zAt.mt 0 0 rfl rfl) rfl) rfl rfl (Nat.le_of_ble_eq_true rfl) dX10_compared_56) (hone (advF (sub sp)) (show (sub sp).1 + 1 ≤ n0 by have := hb.1; omega) (show (sub sp).2.2.2 ≤ (sub sp).1 + 1 by have := hs.2.2; have := hs.1; omega)) [0, 1, 2, 3] rfl (by decide) rfl rfl ?_
        refine z_aload_n hz dX10_compared_59 0 rfl rfl ?_
        refine z_iload_n hz dX10_compared_60 1 rfl rfl ?_
        refine z_callD (bs2 := [zO (ad 99) 10 (mFs ad (upd (upd (upd (upd (upd iv 8 (nI u)) 7 (nI d)) 6 (nI ((emF 20004 (sub (advF (sub sp)))).1))) 9 (zB ((emF 20004 (sub (advF (sub sp)))).2.1 = true))) 11 (nI ((emF 20004 (sub (advF (sub sp)))).2.2.2)))), zI (G.2.2.1 0) (ad 0) 602 g, zI (G.2.2.1 0) (ad 10) 60 ((emF 20004 (sub (advF (sub sp)))).2.2.1), zQr (G.2.2.1 6) (ad 5) 4 (nmdF G)]) (st2 := []) hz hA (zk_V hz (rm := (zRm 0 0 0 0)) (As := [.int 20004]) (rest := []) 1 q2182 q2184 qs54 q95 q2185 (by decide +kernel) ⟨by dsimp only [zRm]; omega, by dsimp only [zRm]; omega⟩ ⟨Nat.le_of_ble_eq_true rfl, Nat.le_of_ble_eq_true rfl⟩ (zRecv (q := (RX10, TX10, 29)) hz (zAt.mt 0 0 rfl rfl) rfl) rfl rfl (Nat.le_of_ble_eq_true rfl) dX10_compared_61) (mM_codes ad iv u d (sub (advF (sub sp))) 20004 (by have := hb.2.2.2.2; have := hq.2.1; omega)) [0, 2] rfl (by decide) rfl rfl ?_
        refine z_bs (bs2 := [zO (ad 99) 10 (mFs ad (upd (upd (upd (upd (upd iv 8 (nI u)) 7 (nI d)) 6 (nI ((emF 20004 (sub (advF (sub sp)))).1))) 9 (zB ((emF 20004 (sub (advF (sub sp)))).2.1 = true))) 11 (nI ((emF 20004 (sub (advF (sub sp)))).2.2.2)))), zI (G.2.2.1 0) (ad 0) 602 g, zI (G.2.2.1 0) (ad 10) 60 ((emF 20004 (sub (advF (sub sp)))).2.2.1), zQr (G.2.2.1 6) (ad 5) 4 (nmdF G)]) rfl ?_
        exact z_vret hQ hz hr hlk dX10_compared_64 ⟨rfl, (by rw [if_neg hx, hv])⟩
    · rw [show tkF g n0 61 (sub sp) = advF (sub sp) from if_pos c2]
      refine z_bs (bs2 := [zO (ad 99) 10 (mFs ad (upd (upd (upd (upd (upd iv 8 (nI u)) 7 (nI d)) 6 (nI ((advF (sub sp)).1))) 9 (zB ((advF (sub sp)).2.1 = true))) 11 (nI ((advF (sub sp)).2.2.2)))), zI (G.2.2.1 0) (ad 0) 602 g, zI (G.2.2.1 0) (ad 10) 60 ((advF (sub sp)).2.2.1), zQr (G.2.2.1 6) (ad 5) 4 (nmdF G)]) rfl ?_
      refine z_sipush hz 20003 dX10_compared_28 ks_20003 ?_
      refine z_goto hz 50 dX10_compared_31 (by decide) ?_
      refine z_istore_n (lv' := [(0, .ref (ad 99)), (1, .int 20003)]) hz [1, 0] dX10_compared_50 rfl (by decide) rfl ?_
      refine z_iload_n hz dX10_compared_51 1 rfl rfl ?_
      refine z_if_leF hz 64 dX10_compared_52 (by decide) (by decide) ?_
      have hv : sgL [(60, 20002), (61, 20003), (62, 20004)] (hereF g n0 (sub sp)) = 20003 := (by simp only [sgL]; rw [if_neg c1, if_pos c2])
      have hx : ¬ sgL [(60, 20002), (61, 20003), (62, 20004)] (hereF g n0 (sub sp)) = 0 := by rw [hv]; decide
      have hb := gd_step (g := g) (v := 20003) hgd (L := [(60, 20002), (61, 20003), (62, 20004)]) (by decide) hs.2.1 (by have := hs.2.2; have := hs.1; omega) hx
      have hq := hgd (advF (sub sp)) (show (sub sp).1 + 1 ≤ n0 by have := hb.1; omega) (show (sub sp).2.2.2 ≤ (sub sp).1 + 1 by have := hs.2.2; have := hs.1; omega)
      refine z_aload_n hz dX10_compared_55 0 rfl rfl ?_
      refine z_callD (bs2 := [zO (ad 99) 10 (mFs ad (upd (upd (upd (upd (upd iv 8 (nI u)) 7 (nI d)) 6 (nI ((sub (advF (sub sp))).1))) 9 (zB ((sub (advF (sub sp))).2.1 = true))) 11 (nI ((sub (advF (sub sp))).2.2.2)))), zI (G.2.2.1 0) (ad 0) 602 g, zI (G.2.2.1 0) (ad 10) 60 ((sub (advF (sub sp))).2.2.1), zQr (G.2.2.1 6) (ad 5) 4 (nmdF G)]) (st2 := []) hz hA (zk_V hz (rm := (zRm f9 0 0 lo9)) (As := []) (rest := []) 0 q2166 q2168 qs50 q95 q2169 (by decide +kernel) ⟨by dsimp only [zRm]; omega, by dsimp only [zRm]; omega⟩ ⟨Nat.le_of_ble_eq_true rfl, Nat.le_of_ble_eq_true rfl⟩ (zRecv (q := (RX10, TX10, 29)) hz (zAt.mt 0 0 rfl rfl) rfl) rfl rfl (Nat.le_of_ble_eq_true rfl) dX10_compared_56) (hone (advF (sub sp)) (show (sub sp).1 + 1 ≤ n0 by have := hb.1; omega) (show (sub sp).2.2.2 ≤ (sub sp).1 + 1 by have := hs.2.2; have := hs.1; omega)) [0, 1, 2, 3] rfl (by decide) rfl rfl ?_
      refine z_aload_n hz dX10_compared_59 0 rfl rfl ?_
      refine z_iload_n hz dX10_compared_60 1 rfl rfl ?_
      refine z_callD (bs2 := [zO (ad 99) 10 (mFs ad (upd (upd (upd (upd (upd iv 8 (nI u)) 7 (nI d)) 6 (nI ((emF 20003 (sub (advF (sub sp)))).1))) 9 (zB ((emF 20003 (sub (advF (sub sp)))).2.1 = true))) 11 (nI ((emF 20003 (sub (advF (sub sp)))).2.2.2)))), zI (G.2.2.1 0) (ad 0) 602 g, zI (G.2.2.1 0) (ad 10) 60 ((emF 20003 (sub (advF (sub sp)))).2.2.1), zQr (G.2.2.1 6) (ad 5) 4 (nmdF G)]) (st2 := []) hz hA (zk_V hz (rm := (zRm 0 0 0 0)) (As := [.int 20003]) (rest := []) 1 q2182 q2184 qs54 q95 q2185 (by decide +kernel) ⟨by dsimp only [zRm]; omega, by dsimp only [zRm]; omega⟩ ⟨Nat.le_of_ble_eq_true rfl, Nat.le_of_ble_eq_true rfl⟩ (zRecv (q := (RX10, TX10, 29)) hz (zAt.mt 0 0 rfl rfl) rfl) rfl rfl (Nat.le_of_ble_eq_true rfl) dX10_compared_61) (mM_codes ad iv u d (sub (advF (sub sp))) 20003 (by have := hb.2.2.2.2; have := hq.2.1; omega)) [0, 2] rfl (by decide) rfl rfl ?_
      refine z_bs (bs2 := [zO (ad 99) 10 (mFs ad (upd (upd (upd (upd (upd iv 8 (nI u)) 7 (nI d)) 6 (nI ((emF 20003 (sub (advF (sub sp)))).1))) 9 (zB ((emF 20003 (sub (advF (sub sp)))).2.1 = true))) 11 (nI ((emF 20003 (sub (advF (sub sp)))).2.2.2)))), zI (G.2.2.1 0) (ad 0) 602 g, zI (G.2.2.1 0) (ad 10) 60 ((emF 20003 (sub (advF (sub sp)))).2.2.1), zQr (G.2.2.1 6) (ad 5) 4 (nmdF G)]) rfl ?_
      exact z_vret hQ hz hr hlk dX10_compared_64 ⟨rfl, (by rw [if_neg hx, hv])⟩
  · rw [show tkF g n0 60 (sub sp) = advF (sub sp) from if_pos c1]
    refine z_bs (bs2 := [zO (ad 99) 10 (mFs ad (upd (upd (upd (upd (upd iv 8 (nI u)) 7 (nI d)) 6 (nI ((advF (sub sp)).1))) 9 (zB ((advF (sub sp)).2.1 = true))) 11 (nI ((advF (sub sp)).2.2.2)))), zI (G.2.2.1 0) (ad 0) 602 g, zI (G.2.2.1 0) (ad 10) 60 ((advF (sub sp)).2.2.1), zQr (G.2.2.1 6) (ad 5) 4 (nmdF G)]) rfl ?_
    refine z_sipush hz 20002 dX10_compared_13 ks_20002 ?_
    refine z_goto hz 50 dX10_compared_16 (by decide) ?_
    refine z_istore_n (lv' := [(0, .ref (ad 99)), (1, .int 20002)]) hz [1, 0] dX10_compared_50 rfl (by decide) rfl ?_
    refine z_iload_n hz dX10_compared_51 1 rfl rfl ?_
    refine z_if_leF hz 64 dX10_compared_52 (by decide) (by decide) ?_
    have hv : sgL [(60, 20002), (61, 20003), (62, 20004)] (hereF g n0 (sub sp)) = 20002 := (by simp only [sgL]; rw [if_pos c1])
    have hx : ¬ sgL [(60, 20002), (61, 20003), (62, 20004)] (hereF g n0 (sub sp)) = 0 := by rw [hv]; decide
    have hb := gd_step (g := g) (v := 20002) hgd (L := [(60, 20002), (61, 20003), (62, 20004)]) (by decide) hs.2.1 (by have := hs.2.2; have := hs.1; omega) hx
    have hq := hgd (advF (sub sp)) (show (sub sp).1 + 1 ≤ n0 by have := hb.1; omega) (show (sub sp).2.2.2 ≤ (sub sp).1 + 1 by have := hs.2.2; have := hs.1; omega)
    refine z_aload_n hz dX10_compared_55 0 rfl rfl ?_
    refine z_callD (bs2 := [zO (ad 99) 10 (mFs ad (upd (upd (upd (upd (upd iv 8 (nI u)) 7 (nI d)) 6 (nI ((sub (advF (sub sp))).1))) 9 (zB ((sub (advF (sub sp))).2.1 = true))) 11 (nI ((sub (advF (sub sp))).2.2.2)))), zI (G.2.2.1 0) (ad 0) 602 g, zI (G.2.2.1 0) (ad 10) 60 ((sub (advF (sub sp))).2.2.1), zQr (G.2.2.1 6) (ad 5) 4 (nmdF G)]) (st2 := []) hz hA (zk_V hz (rm := (zRm f9 0 0 lo9)) (As := []) (rest := []) 0 q2166 q2168 qs50 q95 q2169 (by decide +kernel) ⟨by dsimp only [zRm]; omega, by dsimp only [zRm]; omega⟩ ⟨Nat.le_of_ble_eq_true rfl, Nat.le_of_ble_eq_true rfl⟩ (zRecv (q := (RX10, TX10, 29)) hz (zAt.mt 0 0 rfl rfl) rfl) rfl rfl (Nat.le_of_ble_eq_true rfl) dX10_compared_56) (hone (advF (sub sp)) (show (sub sp).1 + 1 ≤ n0 by have := hb.1; omega) (show (sub sp).2.2.2 ≤ (sub sp).1 + 1 by have := hs.2.2; have := hs.1; omega)) [0, 1, 2, 3] rfl (by decide) rfl rfl ?_
    refine z_aload_n hz dX10_compared_59 0 rfl rfl ?_
    refine z_iload_n hz dX10_compared_60 1 rfl rfl ?_
    refine z_callD (bs2 := [zO (ad 99) 10 (mFs ad (upd (upd (upd (upd (upd iv 8 (nI u)) 7 (nI d)) 6 (nI ((emF 20002 (sub (advF (sub sp)))).1))) 9 (zB ((emF 20002 (sub (advF (sub sp)))).2.1 = true))) 11 (nI ((emF 20002 (sub (advF (sub sp)))).2.2.2)))), zI (G.2.2.1 0) (ad 0) 602 g, zI (G.2.2.1 0) (ad 10) 60 ((emF 20002 (sub (advF (sub sp)))).2.2.1), zQr (G.2.2.1 6) (ad 5) 4 (nmdF G)]) (st2 := []) hz hA (zk_V hz (rm := (zRm 0 0 0 0)) (As := [.int 20002]) (rest := []) 1 q2182 q2184 qs54 q95 q2185 (by decide +kernel) ⟨by dsimp only [zRm]; omega, by dsimp only [zRm]; omega⟩ ⟨Nat.le_of_ble_eq_true rfl, Nat.le_of_ble_eq_true rfl⟩ (zRecv (q := (RX10, TX10, 29)) hz (zAt.mt 0 0 rfl rfl) rfl) rfl rfl (Nat.le_of_ble_eq_true rfl) dX10_compared_61) (mM_codes ad iv u d (sub (advF (sub sp))) 20002 (by have := hb.2.2.2.2; have := hq.2.1; omega)) [0, 2] rfl (by decide) rfl rfl ?_
    refine z_bs (bs2 := [zO (ad 99) 10 (mFs ad (upd (upd (upd (upd (upd iv 8 (nI u)) 7 (nI d)) 6 (nI ((emF 20002 (sub (advF (sub sp)))).1))) 9 (zB ((emF 20002 (sub (advF (sub sp)))).2.1 = true))) 11 (nI ((emF 20002 (sub (advF (sub sp)))).2.2.2)))), zI (G.2.2.1 0) (ad 0) 602 g, zI (G.2.2.1 0) (ad 10) 60 ((emF 20002 (sub (advF (sub sp)))).2.2.1), zQr (G.2.2.1 6) (ad 5) 4 (nmdF G)]) rfl ?_
    exact z_vret hQ hz hr hlk dX10_compared_64 ⟨rfl, (by rw [if_neg hx, hv])⟩
set_option maxHeartbeats 4000000 in
theorem mM_one0 {G : zG} (ad : Nat → Nat) (iv g : Nat → Int32) (n0 u : Nat) (sp : zP) (hn6 : g 6 = nI n0) (hn50 : n0 ≤ 50) (hu : u < 4) (h1 : sp.1 ≤ n0) (h2 : sp.2.2.2 ≤ sp.1) : zMet G yX10_one (ws_ yX10_one cX10_one 4 none) (zRm 5 0 0 200) [.ref (ad 99)] [zO (ad 99) 10 (mFs ad (upd (upd (upd (upd (upd iv 8 (nI u)) 7 (nI 5)) 6 (nI sp.1)) 9 (zB (sp.2.1 = true))) 11 (nI sp.2.2.2))), zI (G.2.2.1 0) (ad 0) 602 g, zI (G.2.2.1 0) (ad 10) 60 sp.2.2.1, zQr (G.2.2.1 6) (ad 5) 4 (nmdF G)] (fun v9 b9 => v9 = none ∧ b9 = [zO (ad 99) 10 (mFs ad (upd (upd (upd (upd (upd iv 8 (nI u)) 7 (nI 5)) 6 (nI ((oneB u g n0 wrgF sp).1))) 9 (zB ((oneB u g n0 wrgF sp).2.1 = true))) 11 (nI ((oneB u g n0 wrgF sp).2.2.2)))), zI (G.2.2.1 0) (ad 0) 602 g, zI (G.2.2.1 0) (ad 10) 60 ((oneB u g n0 wrgF sp).2.2.1), zQr (G.2.2.1 6) (ad 5) 4 (nmdF G)]) := by
  refine zMet.of (by decide +kernel) (Nat.le_of_ble_eq_true rfl) ?_
  intro p e s m args below meth c A hz hA hr hlk hnm9 Q hQ
  refine z_lv (lv' := [(0, .ref (ad 99))]) [0] rfl ?_
  refine z_aload_n hz dX10_one_0 0 rfl rfl ?_
  refine z_callRD (st2 := [.int (hereF g n0 sp)]) hz zKp.mt (zk_V hz (rm := (zRm 0 0 0 0)) (As := []) (rest := []) 0 q2178 q2180 qs53 q95 q2181 (by decide +kernel) ⟨Nat.le_of_ble_eq_true rfl, Nat.le_of_ble_eq_true rfl⟩ ⟨Nat.le_of_ble_eq_true rfl, Nat.le_of_ble_eq_true rfl⟩ (zRecv (q := (RX10, TX10, 29)) hz (zAt.mt 0 0 rfl rfl) rfl) rfl rfl (Nat.le_of_ble_eq_true rfl) dX10_one_1) (mM_here ad iv g n0 u 5 sp hn6 hn50 hu h1) (fun H9 L9 h9 => (zPc (zAt.mt 0 0 rfl rfl) h9 (zPc (zAt.mt 1 0 rfl rfl) h9 zP0))) rfl ?_
  refine z_istore_n (lv' := [(0, .ref (ad 99)), (1, .int (hereF g n0 sp))]) hz [1, 0] dX10_one_4 rfl (by decide) rfl ?_
  refine z_iload_n hz dX10_one_5 1 rfl rfl ?_
  refine z_bipush hz 33 dX10_one_6 kb_33 ?_
  refine z_icmp_eq hz 17 dX10_one_8 (by decide) (fun c1 => ?_) (fun c1 => ?_)
  · refine z_aload_n hz dX10_one_17 0 rfl rfl ?_
    refine z_aload_n hz dX10_one_18 0 rfl rfl ?_
    refine z_get (C := RX10) (T := TX10) (N := 29) hz in_X10 (zAt.mt 0 0 rfl rfl) rfl 7 (by decide) q1936 (fun _ h9 => h9) rfl dX10_one_19 ?_
    refine z_iconst hz 5 dX10_one_22 ki_5 ?_
    refine z_icmpN_neF hz rfl kn_5 (by decide) (by decide) 30 dX10_one_23 (by decide) rfl ?_
    refine z_iconst hz 1 dX10_one_26 ki_1 ?_
    refine z_goto hz 31 dX10_one_27 (by decide) ?_
    refine z_put (C := RX10) (T := TX10) (N := 29) hz in_X10 tyX10 tyX10_ok nmX10 0 0 rfl rfl rfl 9 (by decide) q1938 (fun _ h9 => h9) rfl (by decide) (by decide) (Nat.le_of_ble_eq_true rfl) dX10_one_31 ?_
    refine z_bs (bs2 := [zO (ad 99) 10 (mFs ad (upd (upd (upd (upd (upd iv 8 (nI u)) 7 (nI 5)) 6 (nI sp.1)) 11 (nI sp.2.2.2)) 9 1)), zI (G.2.2.1 0) (ad 0) 602 g, zI (G.2.2.1 0) (ad 10) 60 sp.2.2.1, zQr (G.2.2.1 6) (ad 5) 4 (nmdF G)]) rfl ?_
    refine z_bs (bs2 := [zO (ad 99) 10 (mFs ad (upd (upd (upd (upd (upd iv 8 (nI u)) 7 (nI 5)) 6 (nI ((wrgF sp).1))) 9 (zB ((wrgF sp).2.1 = true))) 11 (nI ((wrgF sp).2.2.2)))), zI (G.2.2.1 0) (ad 0) 602 g, zI (G.2.2.1 0) (ad 10) 60 ((wrgF sp).2.2.1), zQr (G.2.2.1 6) (ad 5) 4 (nmdF G)]) rfl ?_
    refine z_aload_n hz dX10_one_34 0 rfl rfl ?_
    refine z_get (C := RX10) (T := TX10) (N := 29) hz in_X10 (zAt.mt 0 0 rfl rfl) rfl 9 (by decide) q1938 (fun _ h9 => h9) rfl dX10_one_35 ?_
    refine z_ifB_neT hz 247 dX10_one_38 (by decide) (rfl : (wrgF sp).2.1 = true) ?_
    exact z_vret hQ hz hr hlk dX10_one_247 ⟨rfl, (by rw [show oneB u g n0 wrgF sp = wrgF sp from if_pos (Or.inl c1)])⟩
  · refine z_iload_n hz dX10_one_11 1 rfl rfl ?_
    refine z_bipush hz 40 dX10_one_12 kb_40 ?_
    refine z_icmp_ne hz 116 dX10_one_14 (by decide) (fun c2 => ?_) (fun c2 => ?_)
    · refine z_iload_n hz dX10_one_116 1 rfl rfl ?_
      refine z_bipush hz 48 dX10_one_117 kb_48 ?_
      refine z_bipush hz 57 dX10_one_119 kb_57 ?_
      refine z_callRD (st2 := [.int (zB (inR (hereF g n0 sp) 48 57))]) hz zKp.mt (zk_S hz (rm := (zRm 0 0 0 0)) (As := [.int (hereF g n0 sp), .int 48, .int 57]) (rest := []) 3 q2023 q2024 q95 q2025 (by decide +kernel) ⟨Nat.le_of_ble_eq_true rfl, Nat.le_of_ble_eq_true rfl⟩ ⟨Nat.le_of_ble_eq_true rfl, Nat.le_of_ble_eq_true rfl⟩ rfl rfl (Nat.le_of_ble_eq_true rfl) dX10_one_121) (mM_within (hereF g n0 sp) 48 57) (fun _ _ _ => zP0) rfl ?_
      refine z_ifB_eq hz 187 dX10_one_124 (by decide) (fun c3 => ?_) (fun c3 => ?_)
      · refine z_iload_n hz dX10_one_187 1 rfl rfl ?_
        refine z_if_ge hz 195 dX10_one_188 (by decide) (fun c4 => ?_) (fun c4 => ?_)
        · refine z_aload_n hz dX10_one_195 0 rfl rfl ?_
          refine z_iload_n hz dX10_one_196 1 rfl rfl ?_
          refine z_callRD (st2 := [.int (nmF u (hereF g n0 sp) (zLen.getD u 0))]) hz zKp.mt (zk_V hz (rm := (zRm 4 0 0 130)) (As := [.int (hereF g n0 sp)]) (rest := []) 1 q2190 q2192 qs56 q95 q2193 (by decide +kernel) ⟨Nat.le_of_ble_eq_true rfl, Nat.le_of_ble_eq_true rfl⟩ ⟨Nat.le_of_ble_eq_true rfl, Nat.le_of_ble_eq_true rfl⟩ (zRecv (q := (RX10, TX10, 29)) hz (zAt.mt 0 0 rfl rfl) rfl) rfl rfl (Nat.le_of_ble_eq_true rfl) dX10_one_197) (mM_nameOf ad iv u 5 sp hu (hereF g n0 sp)) (fun H9 L9 h9 => (zPc (zAt.mt 0 0 rfl rfl) h9 (zPc (zAt.mt 3 0 rfl rfl) h9 zP0))) rfl ?_
          refine z_istore_n (lv' := [(0, .ref (ad 99)), (1, .int (hereF g n0 sp)), (2, .int (nmF u (hereF g n0 sp) (zLen.getD u 0)))]) hz [1, 2, 0] dX10_one_200 rfl (by decide) rfl ?_
          have hnm : nameF u (hereF g n0 sp) = nmF u (hereF g n0 sp) (zLen.getD u 0) := if_neg (Int32.not_lt.mpr c4)
          refine z_aload_n hz dX10_one_201 0 rfl rfl ?_
          refine z_aload_n hz dX10_one_202 0 rfl rfl ?_
          refine z_get (C := RX10) (T := TX10) (N := 29) hz in_X10 (zAt.mt 0 0 rfl rfl) rfl 9 (by decide) q1938 (fun _ h9 => h9) rfl dX10_one_203 ?_
          refine z_ifB_ne hz 213 dX10_one_206 (by decide) (fun c5 => ?_) (fun c5 => ?_)
          · refine z_iconst hz 1 dX10_one_213 ki_1 ?_
            refine z_goto hz 218 dX10_one_214 (by decide) ?_
            have hbad : sp.2.1 = true ∨ nameF u (hereF g n0 sp) < 0 := Or.inl c5
            refine z_put (C := RX10) (T := TX10) (N := 29) hz in_X10 tyX10 tyX10_ok nmX10 0 0 rfl rfl rfl 9 (by decide) q1938 (fun _ h9 => h9) rfl (by decide) (by decide) (Nat.le_of_ble_eq_true rfl) dX10_one_218 ?_
            refine z_bs (bs2 := [zO (ad 99) 10 (mFs ad (upd (upd (upd (upd (upd iv 8 (nI u)) 7 (nI 5)) 6 (nI sp.1)) 11 (nI sp.2.2.2)) 9 1)), zI (G.2.2.1 0) (ad 0) 602 g, zI (G.2.2.1 0) (ad 10) 60 sp.2.2.1, zQr (G.2.2.1 6) (ad 5) 4 (nmdF G)]) rfl ?_
            refine z_bs (bs2 := [zO (ad 99) 10 (mFs ad (upd (upd (upd (upd (upd iv 8 (nI u)) 7 (nI 5)) 6 (nI ((wrgF sp).1))) 9 (zB ((wrgF sp).2.1 = true))) 11 (nI ((wrgF sp).2.2.2)))), zI (G.2.2.1 0) (ad 0) 602 g, zI (G.2.2.1 0) (ad 10) 60 ((wrgF sp).2.2.1), zQr (G.2.2.1 6) (ad 5) 4 (nmdF G)]) rfl ?_
            refine z_aload_n hz dX10_one_221 0 rfl rfl ?_
            refine z_get (C := RX10) (T := TX10) (N := 29) hz in_X10 (zAt.mt 0 0 rfl rfl) rfl 9 (by decide) q1938 (fun _ h9 => h9) rfl dX10_one_222 ?_
            refine z_ifB_neT hz 247 dX10_one_225 (by decide) (rfl : (wrgF sp).2.1 = true) ?_
            exact z_vret hQ hz hr hlk dX10_one_247 ⟨rfl, (by rw [show oneB u g n0 wrgF sp = wrgF sp from ((if_neg (fun h9 => h9.elim c1 c2)).trans (if_neg c3)).trans (if_pos hbad)])⟩
          · refine z_iload_n hz dX10_one_209 2 rfl rfl ?_
            refine z_if_ge hz 217 dX10_one_210 (by decide) (fun c6 => ?_) (fun c6 => ?_)
            · refine z_iconst hz 0 dX10_one_217 ki_0 ?_
              have hgood : ¬ (sp.2.1 = true ∨ nameF u (hereF g n0 sp) < 0) := fun h9 => h9.elim c5 (fun h8 => by rw [hnm] at h8; exact (Int32.not_lt.mpr c6) h8)
              refine z_put (C := RX10) (T := TX10) (N := 29) hz in_X10 tyX10 tyX10_ok nmX10 0 0 rfl rfl rfl 9 (by decide) q1938 (fun _ h9 => h9) rfl (by decide) (by decide) (Nat.le_of_ble_eq_true rfl) dX10_one_218 ?_
              refine z_bs (bs2 := [zO (ad 99) 10 (mFs ad (upd (upd (upd (upd (upd iv 8 (nI u)) 7 (nI 5)) 6 (nI sp.1)) 11 (nI sp.2.2.2)) 9 0)), zI (G.2.2.1 0) (ad 0) 602 g, zI (G.2.2.1 0) (ad 10) 60 sp.2.2.1, zQr (G.2.2.1 6) (ad 5) 4 (nmdF G)]) rfl ?_
              have hwf : sp.2.1 = false := by cases h9 : sp.2.1 with
                | false => rfl
                | true => exact absurd (Or.inl h9) hgood
              refine z_aload_n hz dX10_one_221 0 rfl rfl ?_
              refine z_get (v := .int 0) (C := RX10) (T := TX10) (N := 29) hz in_X10 (zAt.mt 0 0 rfl rfl) rfl 9 (by decide) q1938 (fun _ h9 => h9) rfl dX10_one_222 ?_
              refine z_if_neF hz 247 dX10_one_225 (by decide) (by decide) ?_
              refine z_bs (bs2 := [zO (ad 99) 10 (mFs ad (upd (upd (upd (upd (upd iv 8 (nI u)) 7 (nI 5)) 6 (nI sp.1)) 9 (zB (sp.2.1 = true))) 11 (nI sp.2.2.2))), zI (G.2.2.1 0) (ad 0) 602 g, zI (G.2.2.1 0) (ad 10) 60 sp.2.2.1, zQr (G.2.2.1 6) (ad 5) 4 (nmdF G)]) (by rw [zB_f (P := sp.2.1 = true) (by rw [hwf]; decide)]; rfl) ?_
              refine z_aload_n hz dX10_one_228 0 rfl rfl ?_
              refine z_sipush hz 10000 dX10_one_229 ks_10000 ?_
              refine z_iload_n hz dX10_one_232 2 rfl rfl ?_
              refine z_iadd hz dX10_one_233 ?_
              refine z_callD (bs2 := [zO (ad 99) 10 (mFs ad (upd (upd (upd (upd (upd iv 8 (nI u)) 7 (nI 5)) 6 (nI ((emF (10000 + (nmF u (hereF g n0 sp) (zLen.getD u 0))) sp).1))) 9 (zB ((emF (10000 + (nmF u (hereF g n0 sp) (zLen.getD u 0))) sp).2.1 = true))) 11 (nI ((emF (10000 + (nmF u (hereF g n0 sp) (zLen.getD u 0))) sp).2.2.2)))), zI (G.2.2.1 0) (ad 0) 602 g, zI (G.2.2.1 0) (ad 10) 60 ((emF (10000 + (nmF u (hereF g n0 sp) (zLen.getD u 0))) sp).2.2.1), zQr (G.2.2.1 6) (ad 5) 4 (nmdF G)]) (st2 := []) hz hA (zk_V hz (rm := (zRm 0 0 0 0)) (As := [.int (10000 + (nmF u (hereF g n0 sp) (zLen.getD u 0)))]) (rest := []) 1 q2182 q2184 qs54 q95 q2185 (by decide +kernel) ⟨Nat.le_of_ble_eq_true rfl, Nat.le_of_ble_eq_true rfl⟩ ⟨Nat.le_of_ble_eq_true rfl, Nat.le_of_ble_eq_true rfl⟩ (zRecv (q := (RX10, TX10, 29)) hz (zAt.mt 0 0 rfl rfl) rfl) rfl rfl (Nat.le_of_ble_eq_true rfl) dX10_one_234) (mM_codes ad iv u 5 sp (10000 + (nmF u (hereF g n0 sp) (zLen.getD u 0))) (by omega)) [0, 2] rfl (by decide) rfl rfl ?_
              refine z_bs (bs2 := [zO (ad 99) 10 (mFs ad (upd (upd (upd (upd (upd iv 8 (nI u)) 7 (nI 5)) 6 (nI ((emF (10000 + (nmF u (hereF g n0 sp) (zLen.getD u 0))) sp).1))) 9 (zB ((emF (10000 + (nmF u (hereF g n0 sp) (zLen.getD u 0))) sp).2.1 = true))) 11 (nI ((emF (10000 + (nmF u (hereF g n0 sp) (zLen.getD u 0))) sp).2.2.2)))), zI (G.2.2.1 0) (ad 0) 602 g, zI (G.2.2.1 0) (ad 10) 60 ((emF (10000 + (nmF u (hereF g n0 sp) (zLen.getD u 0))) sp).2.2.1), zQr (G.2.2.1 6) (ad 5) 4 (nmdF G)]) rfl ?_
              refine z_aload_n hz dX10_one_237 0 rfl rfl ?_
              refine z_dup hz dX10_one_238 rfl ?_
              refine z_get (C := RX10) (T := TX10) (N := 29) hz in_X10 (zAt.mt 0 0 rfl rfl) rfl 6 (by decide) q1935 (fun _ h9 => h9) rfl dX10_one_239 ?_
              refine z_iconst hz 1 dX10_one_242 ki_1 ?_
              refine z_iaddN hz rfl kn_1 dX10_one_243 ?_
              refine z_put (C := RX10) (T := TX10) (N := 29) hz in_X10 tyX10 tyX10_ok nmX10 0 0 rfl rfl rfl 6 (by decide) q1935 (fun _ h9 => h9) rfl rfl rfl (Nat.le_of_ble_eq_true rfl) dX10_one_244 ?_
              refine z_bs (bs2 := [zO (ad 99) 10 (mFs ad (upd (upd (upd (upd (upd iv 8 (nI u)) 7 (nI 5)) 9 (zB ((emF (10000 + (nmF u (hereF g n0 sp) (zLen.getD u 0))) sp).2.1 = true))) 11 (nI ((emF (10000 + (nmF u (hereF g n0 sp) (zLen.getD u 0))) sp).2.2.2))) 6 (nI (((emF (10000 + (nmF u (hereF g n0 sp) (zLen.getD u 0))) sp).1) + 1)))), zI (G.2.2.1 0) (ad 0) 602 g, zI (G.2.2.1 0) (ad 10) 60 ((emF (10000 + (nmF u (hereF g n0 sp) (zLen.getD u 0))) sp).2.2.1), zQr (G.2.2.1 6) (ad 5) 4 (nmdF G)]) rfl ?_
              refine z_bs (bs2 := [zO (ad 99) 10 (mFs ad (upd (upd (upd (upd (upd iv 8 (nI u)) 7 (nI 5)) 6 (nI ((advF (emF (10000 + (nmF u (hereF g n0 sp) (zLen.getD u 0))) sp)).1))) 9 (zB ((advF (emF (10000 + (nmF u (hereF g n0 sp) (zLen.getD u 0))) sp)).2.1 = true))) 11 (nI ((advF (emF (10000 + (nmF u (hereF g n0 sp) (zLen.getD u 0))) sp)).2.2.2)))), zI (G.2.2.1 0) (ad 0) 602 g, zI (G.2.2.1 0) (ad 10) 60 ((advF (emF (10000 + (nmF u (hereF g n0 sp) (zLen.getD u 0))) sp)).2.2.1), zQr (G.2.2.1 6) (ad 5) 4 (nmdF G)]) rfl ?_
              exact z_vret hQ hz hr hlk dX10_one_247 ⟨rfl, (by rw [show oneB u g n0 wrgF sp = advF (emF (10000 + nmF u (hereF g n0 sp) (zLen.getD u 0)) sp) from ((if_neg (fun h9 => h9.elim c1 c2)).trans (if_neg c3)).trans ((if_neg hgood).trans (by rw [hnm]))])⟩
            · refine z_iconst hz 1 dX10_one_213 ki_1 ?_
              refine z_goto hz 218 dX10_one_214 (by decide) ?_
              have hbad : sp.2.1 = true ∨ nameF u (hereF g n0 sp) < 0 := Or.inr (by rw [hnm]; exact (Int32.not_le.mp c6))
              refine z_put (C := RX10) (T := TX10) (N := 29) hz in_X10 tyX10 tyX10_ok nmX10 0 0 rfl rfl rfl 9 (by decide) q1938 (fun _ h9 => h9) rfl (by decide) (by decide) (Nat.le_of_ble_eq_true rfl) dX10_one_218 ?_
              refine z_bs (bs2 := [zO (ad 99) 10 (mFs ad (upd (upd (upd (upd (upd iv 8 (nI u)) 7 (nI 5)) 6 (nI sp.1)) 11 (nI sp.2.2.2)) 9 1)), zI (G.2.2.1 0) (ad 0) 602 g, zI (G.2.2.1 0) (ad 10) 60 sp.2.2.1, zQr (G.2.2.1 6) (ad 5) 4 (nmdF G)]) rfl ?_
              refine z_bs (bs2 := [zO (ad 99) 10 (mFs ad (upd (upd (upd (upd (upd iv 8 (nI u)) 7 (nI 5)) 6 (nI ((wrgF sp).1))) 9 (zB ((wrgF sp).2.1 = true))) 11 (nI ((wrgF sp).2.2.2)))), zI (G.2.2.1 0) (ad 0) 602 g, zI (G.2.2.1 0) (ad 10) 60 ((wrgF sp).2.2.1), zQr (G.2.2.1 6) (ad 5) 4 (nmdF G)]) rfl ?_
              refine z_aload_n hz dX10_one_221 0 rfl rfl ?_
              refine z_get (C := RX10) (T := TX10) (N := 29) hz in_X10 (zAt.mt 0 0 rfl rfl) rfl 9 (by decide) q1938 (fun _ h9 => h9) rfl dX10_one_222 ?_
              refine z_ifB_neT hz 247 dX10_one_225 (by decide) (rfl : (wrgF sp).2.1 = true) ?_
              exact z_vret hQ hz hr hlk dX10_one_247 ⟨rfl, (by rw [show oneB u g n0 wrgF sp = wrgF sp from ((if_neg (fun h9 => h9.elim c1 c2)).trans (if_neg c3)).trans (if_pos hbad)])⟩
        · refine z_iconst hz (-1) dX10_one_191 ki_m1 ?_
          refine z_goto hz 200 dX10_one_192 (by decide) ?_
          refine z_istore_n (lv' := [(0, .ref (ad 99)), (1, .int (hereF g n0 sp)), (2, .int (-1))]) hz [1, 2, 0] dX10_one_200 rfl (by decide) rfl ?_
          have hnm : nameF u (hereF g n0 sp) = (-1) := if_pos (Int32.not_le.mp c4)
          refine z_aload_n hz dX10_one_201 0 rfl rfl ?_
          refine z_aload_n hz dX10_one_202 0 rfl rfl ?_
          refine z_get (C := RX10) (T := TX10) (N := 29) hz in_X10 (zAt.mt 0 0 rfl rfl) rfl 9 (by decide) q1938 (fun _ h9 => h9) rfl dX10_one_203 ?_
          refine z_ifB_ne hz 213 dX10_one_206 (by decide) (fun c7 => ?_) (fun c7 => ?_)
          · refine z_iconst hz 1 dX10_one_213 ki_1 ?_
            refine z_goto hz 218 dX10_one_214 (by decide) ?_
            have hbad : sp.2.1 = true ∨ nameF u (hereF g n0 sp) < 0 := Or.inl c7
            refine z_put (C := RX10) (T := TX10) (N := 29) hz in_X10 tyX10 tyX10_ok nmX10 0 0 rfl rfl rfl 9 (by decide) q1938 (fun _ h9 => h9) rfl (by decide) (by decide) (Nat.le_of_ble_eq_true rfl) dX10_one_218 ?_
            refine z_bs (bs2 := [zO (ad 99) 10 (mFs ad (upd (upd (upd (upd (upd iv 8 (nI u)) 7 (nI 5)) 6 (nI sp.1)) 11 (nI sp.2.2.2)) 9 1)), zI (G.2.2.1 0) (ad 0) 602 g, zI (G.2.2.1 0) (ad 10) 60 sp.2.2.1, zQr (G.2.2.1 6) (ad 5) 4 (nmdF G)]) rfl ?_
            refine z_bs (bs2 := [zO (ad 99) 10 (mFs ad (upd (upd (upd (upd (upd iv 8 (nI u)) 7 (nI 5)) 6 (nI ((wrgF sp).1))) 9 (zB ((wrgF sp).2.1 = true))) 11 (nI ((wrgF sp).2.2.2)))), zI (G.2.2.1 0) (ad 0) 602 g, zI (G.2.2.1 0) (ad 10) 60 ((wrgF sp).2.2.1), zQr (G.2.2.1 6) (ad 5) 4 (nmdF G)]) rfl ?_
            refine z_aload_n hz dX10_one_221 0 rfl rfl ?_
            refine z_get (C := RX10) (T := TX10) (N := 29) hz in_X10 (zAt.mt 0 0 rfl rfl) rfl 9 (by decide) q1938 (fun _ h9 => h9) rfl dX10_one_222 ?_
            refine z_ifB_neT hz 247 dX10_one_225 (by decide) (rfl : (wrgF sp).2.1 = true) ?_
            exact z_vret hQ hz hr hlk dX10_one_247 ⟨rfl, (by rw [show oneB u g n0 wrgF sp = wrgF sp from ((if_neg (fun h9 => h9.elim c1 c2)).trans (if_neg c3)).trans (if_pos hbad)])⟩
          · refine z_iload_n hz dX10_one_209 2 rfl rfl ?_
            refine z_if_geF hz 217 dX10_one_210 (by decide) (by decide) ?_
            refine z_iconst hz 1 dX10_one_213 ki_1 ?_
            refine z_goto hz 218 dX10_one_214 (by decide) ?_
            have hbad : sp.2.1 = true ∨ nameF u (hereF g n0 sp) < 0 := Or.inr (by rw [hnm]; decide)
            refine z_put (C := RX10) (T := TX10) (N := 29) hz in_X10 tyX10 tyX10_ok nmX10 0 0 rfl rfl rfl 9 (by decide) q1938 (fun _ h9 => h9) rfl (by decide) (by decide) (Nat.le_of_ble_eq_true rfl) dX10_one_218 ?_
            refine z_bs (bs2 := [zO (ad 99) 10 (mFs ad (upd (upd (upd (upd (upd iv 8 (nI u)) 7 (nI 5)) 6 (nI sp.1)) 11 (nI sp.2.2.2)) 9 1)), zI (G.2.2.1 0) (ad 0) 602 g, zI (G.2.2.1 0) (ad 10) 60 sp.2.2.1, zQr (G.2.2.1 6) (ad 5) 4 (nmdF G)]) rfl ?_
            refine z_bs (bs2 := [zO (ad 99) 10 (mFs ad (upd (upd (upd (upd (upd iv 8 (nI u)) 7 (nI 5)) 6 (nI ((wrgF sp).1))) 9 (zB ((wrgF sp).2.1 = true))) 11 (nI ((wrgF sp).2.2.2)))), zI (G.2.2.1 0) (ad 0) 602 g, zI (G.2.2.1 0) (ad 10) 60 ((wrgF sp).2.2.1), zQr (G.2.2.1 6) (ad 5) 4 (nmdF G)]) rfl ?_
            refine z_aload_n hz dX10_one_221 0 rfl rfl ?_
            refine z_get (C := RX10) (T := TX10) (N := 29) hz in_X10 (zAt.mt 0 0 rfl rfl) rfl 9 (by decide) q1938 (fun _ h9 => h9) rfl dX10_one_222 ?_
            refine z_ifB_neT hz 247 dX10_one_225 (by decide) (rfl : (wrgF sp).2.1 = true) ?_
            exact z_vret hQ hz hr hlk dX10_one_247 ⟨rfl, (by rw [show oneB u g n0 wrgF sp = wrgF sp from ((if_neg (fun h9 => h9.elim c1 c2)).trans (if_neg c3)).trans (if_pos hbad)])⟩
      · refine z_iconst hz 0 dX10_one_127 ki_0 ?_
        refine z_istore_n (lv' := [(0, .ref (ad 99)), (1, .int (hereF g n0 sp)), (2, .int 0)]) hz [1, 2, 0] dX10_one_128 rfl (by decide) rfl ?_
        refine z_iconst hz 0 dX10_one_129 ki_0 ?_
        refine z_istore_n (lv' := [(0, .ref (ad 99)), (1, .int (hereF g n0 sp)), (2, .int 0), (3, .int 0)]) hz [1, 2, 3, 0] dX10_one_130 rfl (by decide) rfl ?_
        have lp_131 : ∀ (n9 : Nat) (k : Nat) (v9 : Int32), k ≤ 4 → v9 = (nuF g n0 sp k).1 → 4 - k < n9 → zW p G.1 e (zRm 5 0 0 200) s m args below meth c 4 Q 0 0 (zΦ G A s [zO (ad 99) 10 (mFs ad (upd (upd (upd (upd (upd iv 8 (nI u)) 7 (nI 5)) 6 (nI (((nuF g n0 sp k).2).1))) 9 (zB (((nuF g n0 sp k).2).2.1 = true))) 11 (nI (((nuF g n0 sp k).2).2.2.2)))), zI (G.2.2.1 0) (ad 0) 602 g, zI (G.2.2.1 0) (ad 10) 60 (((nuF g n0 sp k).2).2.2.1), zQr (G.2.2.1 6) (ad 5) 4 (nmdF G)]) 131 [(0, .ref (ad 99)), (1, .int (hereF g n0 sp)), (2, .int v9), (3, .int (nI k))] [] := by
          intro n9
          induction n9 with
          | zero => intro _ _ _ _ hm; exact absurd hm (Nat.not_lt_zero _)
          | succ n9 ih_131 =>
            intro k v9 hk hv hm_131
            have hnb := nuF_b (g := g) (n := n0) (s := sp) h1 k
            refine z_iload_n hz dX10_one_131 3 rfl rfl ?_
            refine z_iconst hz 4 dX10_one_132 ki_4 ?_
            refine z_icmpN_ge hz rfl kn_4 (by omega) (by decide) 179 dX10_one_133 (by decide) (fun c8 => ?_) (fun c8 => ?_)
            · have hN : nuF g n0 sp 4 = nuF g n0 sp k := by rw [show 4 = k by omega]
              refine z_aload_n hz dX10_one_179 0 rfl rfl ?_
              have h60 : (nuF g n0 sp k).2.2.2.2 < 60 := by rw [show (nuF g n0 sp k).2.2.2.2 = sp.2.2.2 by rw [hnb.2.2]]; omega
              refine z_iload_n hz dX10_one_180 2 rfl rfl ?_
              refine z_callD (bs2 := [zO (ad 99) 10 (mFs ad (upd (upd (upd (upd (upd iv 8 (nI u)) 7 (nI 5)) 6 (nI ((emF v9 ((nuF g n0 sp k).2)).1))) 9 (zB ((emF v9 ((nuF g n0 sp k).2)).2.1 = true))) 11 (nI ((emF v9 ((nuF g n0 sp k).2)).2.2.2)))), zI (G.2.2.1 0) (ad 0) 602 g, zI (G.2.2.1 0) (ad 10) 60 ((emF v9 ((nuF g n0 sp k).2)).2.2.1), zQr (G.2.2.1 6) (ad 5) 4 (nmdF G)]) (st2 := []) hz hA (zk_V hz (rm := (zRm 0 0 0 0)) (As := [.int v9]) (rest := []) 1 q2182 q2184 qs54 q95 q2185 (by decide +kernel) ⟨Nat.le_of_ble_eq_true rfl, Nat.le_of_ble_eq_true rfl⟩ ⟨Nat.le_of_ble_eq_true rfl, Nat.le_of_ble_eq_true rfl⟩ (zRecv (q := (RX10, TX10, 29)) hz (zAt.mt 0 0 rfl rfl) rfl) rfl rfl (Nat.le_of_ble_eq_true rfl) dX10_one_181) (mM_codes ad iv u 5 ((nuF g n0 sp k).2) v9 h60) [0, 2] rfl (by decide) rfl rfl ?_
              refine z_bs (bs2 := [zO (ad 99) 10 (mFs ad (upd (upd (upd (upd (upd iv 8 (nI u)) 7 (nI 5)) 6 (nI ((emF v9 ((nuF g n0 sp k).2)).1))) 9 (zB ((emF v9 ((nuF g n0 sp k).2)).2.1 = true))) 11 (nI ((emF v9 ((nuF g n0 sp k).2)).2.2.2)))), zI (G.2.2.1 0) (ad 0) 602 g, zI (G.2.2.1 0) (ad 10) 60 ((emF v9 ((nuF g n0 sp k).2)).2.2.1), zQr (G.2.2.1 6) (ad 5) 4 (nmdF G)]) rfl ?_
              refine z_goto hz 247 dX10_one_184 (by decide) ?_
              exact z_vret hQ hz hr hlk dX10_one_247 ⟨rfl, (by rw [show oneB u g n0 wrgF sp = emF v9 (nuF g n0 sp k).2 from ((if_neg (fun h9 => h9.elim c1 c2)).trans (if_pos c3)).trans (by rw [hN, ← hv])])⟩
            · refine z_aload_n hz dX10_one_136 0 rfl rfl ?_
              refine z_callRD (st2 := [.int (hereF g n0 ((nuF g n0 sp k).2))]) hz zKp.mt (zk_V hz (rm := (zRm 0 0 0 0)) (As := []) (rest := []) 0 q2178 q2180 qs53 q95 q2181 (by decide +kernel) ⟨Nat.le_of_ble_eq_true rfl, Nat.le_of_ble_eq_true rfl⟩ ⟨Nat.le_of_ble_eq_true rfl, Nat.le_of_ble_eq_true rfl⟩ (zRecv (q := (RX10, TX10, 29)) hz (zAt.mt 0 0 rfl rfl) rfl) rfl rfl (Nat.le_of_ble_eq_true rfl) dX10_one_137) (mM_here ad iv g n0 u 5 ((nuF g n0 sp k).2) hn6 hn50 hu hnb.2.1) (fun H9 L9 h9 => (zPc (zAt.mt 0 0 rfl rfl) h9 (zPc (zAt.mt 1 0 rfl rfl) h9 zP0))) rfl ?_
              refine z_bipush hz 48 dX10_one_140 kb_48 ?_
              refine z_bipush hz 57 dX10_one_142 kb_57 ?_
              refine z_callRD (st2 := [.int (zB (inR (hereF g n0 ((nuF g n0 sp k).2)) 48 57))]) hz zKp.mt (zk_S hz (rm := (zRm 0 0 0 0)) (As := [.int (hereF g n0 ((nuF g n0 sp k).2)), .int 48, .int 57]) (rest := []) 3 q2023 q2024 q95 q2025 (by decide +kernel) ⟨Nat.le_of_ble_eq_true rfl, Nat.le_of_ble_eq_true rfl⟩ ⟨Nat.le_of_ble_eq_true rfl, Nat.le_of_ble_eq_true rfl⟩ rfl rfl (Nat.le_of_ble_eq_true rfl) dX10_one_144) (mM_within (hereF g n0 ((nuF g n0 sp k).2)) 48 57) (fun _ _ _ => zP0) rfl ?_
              refine z_ifB_eq hz 179 dX10_one_147 (by decide) (fun c9 => ?_) (fun c9 => ?_)
              · have hN : nuF g n0 sp 4 = nuF g n0 sp k := by rw [show 4 = k + (4 - k) by omega]; exact nuF_end c9 _
                refine z_aload_n hz dX10_one_179 0 rfl rfl ?_
                have h60 : (nuF g n0 sp k).2.2.2.2 < 60 := by rw [show (nuF g n0 sp k).2.2.2.2 = sp.2.2.2 by rw [hnb.2.2]]; omega
                refine z_iload_n hz dX10_one_180 2 rfl rfl ?_
                refine z_callD (bs2 := [zO (ad 99) 10 (mFs ad (upd (upd (upd (upd (upd iv 8 (nI u)) 7 (nI 5)) 6 (nI ((emF v9 ((nuF g n0 sp k).2)).1))) 9 (zB ((emF v9 ((nuF g n0 sp k).2)).2.1 = true))) 11 (nI ((emF v9 ((nuF g n0 sp k).2)).2.2.2)))), zI (G.2.2.1 0) (ad 0) 602 g, zI (G.2.2.1 0) (ad 10) 60 ((emF v9 ((nuF g n0 sp k).2)).2.2.1), zQr (G.2.2.1 6) (ad 5) 4 (nmdF G)]) (st2 := []) hz hA (zk_V hz (rm := (zRm 0 0 0 0)) (As := [.int v9]) (rest := []) 1 q2182 q2184 qs54 q95 q2185 (by decide +kernel) ⟨Nat.le_of_ble_eq_true rfl, Nat.le_of_ble_eq_true rfl⟩ ⟨Nat.le_of_ble_eq_true rfl, Nat.le_of_ble_eq_true rfl⟩ (zRecv (q := (RX10, TX10, 29)) hz (zAt.mt 0 0 rfl rfl) rfl) rfl rfl (Nat.le_of_ble_eq_true rfl) dX10_one_181) (mM_codes ad iv u 5 ((nuF g n0 sp k).2) v9 h60) [0, 2] rfl (by decide) rfl rfl ?_
                refine z_bs (bs2 := [zO (ad 99) 10 (mFs ad (upd (upd (upd (upd (upd iv 8 (nI u)) 7 (nI 5)) 6 (nI ((emF v9 ((nuF g n0 sp k).2)).1))) 9 (zB ((emF v9 ((nuF g n0 sp k).2)).2.1 = true))) 11 (nI ((emF v9 ((nuF g n0 sp k).2)).2.2.2)))), zI (G.2.2.1 0) (ad 0) 602 g, zI (G.2.2.1 0) (ad 10) 60 ((emF v9 ((nuF g n0 sp k).2)).2.2.1), zQr (G.2.2.1 6) (ad 5) 4 (nmdF G)]) rfl ?_
                refine z_goto hz 247 dX10_one_184 (by decide) ?_
                exact z_vret hQ hz hr hlk dX10_one_247 ⟨rfl, (by rw [show oneB u g n0 wrgF sp = emF v9 (nuF g n0 sp k).2 from ((if_neg (fun h9 => h9.elim c1 c2)).trans (if_pos c3)).trans (by rw [hN, ← hv])])⟩
              · refine z_bipush hz 10 dX10_one_150 kb_10 ?_
                refine z_iload_n hz dX10_one_152 2 rfl rfl ?_
                refine z_imul hz dX10_one_153 ?_
                refine z_aload_n hz dX10_one_154 0 rfl rfl ?_
                refine z_callRD (st2 := [.int (hereF g n0 ((nuF g n0 sp k).2)), .int (10 * v9)]) hz zKp.mt (zk_V hz (rm := (zRm 0 0 0 0)) (As := []) (rest := [.int (10 * v9)]) 0 q2178 q2180 qs53 q95 q2181 (by decide +kernel) ⟨Nat.le_of_ble_eq_true rfl, Nat.le_of_ble_eq_true rfl⟩ ⟨Nat.le_of_ble_eq_true rfl, Nat.le_of_ble_eq_true rfl⟩ (zRecv (q := (RX10, TX10, 29)) hz (zAt.mt 0 0 rfl rfl) rfl) rfl rfl (Nat.le_of_ble_eq_true rfl) dX10_one_155) (mM_here ad iv g n0 u 5 ((nuF g n0 sp k).2) hn6 hn50 hu hnb.2.1) (fun H9 L9 h9 => (zPc (zAt.mt 0 0 rfl rfl) h9 (zPc (zAt.mt 1 0 rfl rfl) h9 zP0))) rfl ?_
                refine z_iadd hz dX10_one_158 ?_
                refine z_bipush hz 48 dX10_one_159 kb_48 ?_
                refine z_isub hz dX10_one_161 ?_
                refine z_istore_n (lv' := [(0, .ref (ad 99)), (1, .int (hereF g n0 sp)), (2, .int (((10 * v9) + (hereF g n0 ((nuF g n0 sp k).2))) - 48)), (3, .int (nI k))]) hz [1, 2, 0, 3] dX10_one_162 rfl (by decide) rfl ?_
                refine z_aload_n hz dX10_one_163 0 rfl rfl ?_
                refine z_dup hz dX10_one_164 rfl ?_
                refine z_get (C := RX10) (T := TX10) (N := 29) hz in_X10 (zAt.mt 0 0 rfl rfl) rfl 6 (by decide) q1935 (fun _ h9 => h9) rfl dX10_one_165 ?_
                refine z_iconst hz 1 dX10_one_168 ki_1 ?_
                refine z_iaddN hz rfl kn_1 dX10_one_169 ?_
                refine z_put (C := RX10) (T := TX10) (N := 29) hz in_X10 tyX10 tyX10_ok nmX10 0 0 rfl rfl rfl 6 (by decide) q1935 (fun _ h9 => h9) rfl rfl rfl (Nat.le_of_ble_eq_true rfl) dX10_one_170 ?_
                refine z_bs (bs2 := [zO (ad 99) 10 (mFs ad (upd (upd (upd (upd (upd iv 8 (nI u)) 7 (nI 5)) 9 (zB (((nuF g n0 sp k).2).2.1 = true))) 11 (nI (((nuF g n0 sp k).2).2.2.2))) 6 (nI ((((nuF g n0 sp k).2).1) + 1)))), zI (G.2.2.1 0) (ad 0) 602 g, zI (G.2.2.1 0) (ad 10) 60 (((nuF g n0 sp k).2).2.2.1), zQr (G.2.2.1 6) (ad 5) 4 (nmdF G)]) rfl ?_
                have hst : (nuF g n0 sp (k + 1)).2 = advF (nuF g n0 sp k).2 := congrArg Prod.snd (if_pos c9)
                refine z_bs (bs2 := [zO (ad 99) 10 (mFs ad (upd (upd (upd (upd (upd iv 8 (nI u)) 7 (nI 5)) 6 (nI ((advF (nuF g n0 sp k).2).1))) 9 (zB ((advF (nuF g n0 sp k).2).2.1 = true))) 11 (nI ((advF (nuF g n0 sp k).2).2.2.2)))), zI (G.2.2.1 0) (ad 0) 602 g, zI (G.2.2.1 0) (ad 10) 60 ((advF (nuF g n0 sp k).2).2.2.1), zQr (G.2.2.1 6) (ad 5) 4 (nmdF G)]) rfl ?_
                refine z_bs (bs2 := [zO (ad 99) 10 (mFs ad (upd (upd (upd (upd (upd iv 8 (nI u)) 7 (nI 5)) 6 (nI (((nuF g n0 sp (k + 1)).2).1))) 9 (zB (((nuF g n0 sp (k + 1)).2).2.1 = true))) 11 (nI (((nuF g n0 sp (k + 1)).2).2.2.2)))), zI (G.2.2.1 0) (ad 0) 602 g, zI (G.2.2.1 0) (ad 10) 60 (((nuF g n0 sp (k + 1)).2).2.2.1), zQr (G.2.2.1 6) (ad 5) 4 (nmdF G)]) (by rw [hst]) ?_
                refine z_iinc (lv' := [(0, .ref (ad 99)), (1, .int (hereF g n0 sp)), (2, .int (((10 * v9) + (hereF g n0 ((nuF g n0 sp k).2))) - 48)), (3, .int (nI (k + 1)))]) hz (nI (k + 1)) 3 [1, 2, 3, 0] dX10_one_173 rfl (nI_1 _) (by decide) rfl ?_
                refine z_goto hz 131 dX10_one_176 (by decide) ?_
                exact ih_131 (k + 1) (((10 * v9) + (hereF g n0 ((nuF g n0 sp k).2))) - 48) (by omega) (by simp only [nuF]; rw [if_pos c9, ← hv]) (by omega)
        exact lp_131 ((4 - 0) + 1) 0 0 (Nat.zero_le _) rfl (Nat.lt_succ_self _)
    · refine z_aload_n hz dX10_one_17 0 rfl rfl ?_
      refine z_aload_n hz dX10_one_18 0 rfl rfl ?_
      refine z_get (C := RX10) (T := TX10) (N := 29) hz in_X10 (zAt.mt 0 0 rfl rfl) rfl 7 (by decide) q1936 (fun _ h9 => h9) rfl dX10_one_19 ?_
      refine z_iconst hz 5 dX10_one_22 ki_5 ?_
      refine z_icmpN_neF hz rfl kn_5 (by decide) (by decide) 30 dX10_one_23 (by decide) rfl ?_
      refine z_iconst hz 1 dX10_one_26 ki_1 ?_
      refine z_goto hz 31 dX10_one_27 (by decide) ?_
      refine z_put (C := RX10) (T := TX10) (N := 29) hz in_X10 tyX10 tyX10_ok nmX10 0 0 rfl rfl rfl 9 (by decide) q1938 (fun _ h9 => h9) rfl (by decide) (by decide) (Nat.le_of_ble_eq_true rfl) dX10_one_31 ?_
      refine z_bs (bs2 := [zO (ad 99) 10 (mFs ad (upd (upd (upd (upd (upd iv 8 (nI u)) 7 (nI 5)) 6 (nI sp.1)) 11 (nI sp.2.2.2)) 9 1)), zI (G.2.2.1 0) (ad 0) 602 g, zI (G.2.2.1 0) (ad 10) 60 sp.2.2.1, zQr (G.2.2.1 6) (ad 5) 4 (nmdF G)]) rfl ?_
      refine z_bs (bs2 := [zO (ad 99) 10 (mFs ad (upd (upd (upd (upd (upd iv 8 (nI u)) 7 (nI 5)) 6 (nI ((wrgF sp).1))) 9 (zB ((wrgF sp).2.1 = true))) 11 (nI ((wrgF sp).2.2.2)))), zI (G.2.2.1 0) (ad 0) 602 g, zI (G.2.2.1 0) (ad 10) 60 ((wrgF sp).2.2.1), zQr (G.2.2.1 6) (ad 5) 4 (nmdF G)]) rfl ?_
      refine z_aload_n hz dX10_one_34 0 rfl rfl ?_
      refine z_get (C := RX10) (T := TX10) (N := 29) hz in_X10 (zAt.mt 0 0 rfl rfl) rfl 9 (by decide) q1938 (fun _ h9 => h9) rfl dX10_one_35 ?_
      refine z_ifB_neT hz 247 dX10_one_38 (by decide) (rfl : (wrgF sp).2.1 = true) ?_
      exact z_vret hQ hz hr hlk dX10_one_247 ⟨rfl, (by rw [show oneB u g n0 wrgF sp = wrgF sp from if_pos (Or.inr c2)])⟩
set_option maxHeartbeats 8000000 in
theorem mM_one1 {G : zG} (ad : Nat → Nat) (iv g : Nat → Int32) (n0 u d : Nat) (sp : zP) (hn6 : g 6 = nI n0) (hn50 : n0 ≤ 50) (hu : u < 4) (hd5 : d < 5) (one : zP → zP) (hgd : gdP n0 one) (f8 lo8 f9 lo9 : Nat) (hf8 : f8 ≤ f9) (hlo8 : lo8 ≤ lo9) (hf9 : 6 ≤ f9) (hlo9 : 200 ≤ lo9) (hone : ∀ sp : zP, sp.1 ≤ n0 → sp.2.2.2 ≤ sp.1 → zMet G yX10_one (ws_ yX10_one cX10_one 4 none) (zRm f8 0 0 lo8) [.ref (ad 99)] [zO (ad 99) 10 (mFs ad (upd (upd (upd (upd (upd iv 8 (nI u)) 7 (nI (d + 1))) 6 (nI sp.1)) 9 (zB (sp.2.1 = true))) 11 (nI sp.2.2.2))), zI (G.2.2.1 0) (ad 0) 602 g, zI (G.2.2.1 0) (ad 10) 60 sp.2.2.1, zQr (G.2.2.1 6) (ad 5) 4 (nmdF G)] (fun v9 b9 => v9 = none ∧ b9 = [zO (ad 99) 10 (mFs ad (upd (upd (upd (upd (upd iv 8 (nI u)) 7 (nI (d + 1))) 6 (nI ((one sp).1))) 9 (zB ((one sp).2.1 = true))) 11 (nI ((one sp).2.2.2)))), zI (G.2.2.1 0) (ad 0) 602 g, zI (G.2.2.1 0) (ad 10) 60 ((one sp).2.2.1), zQr (G.2.2.1 6) (ad 5) 4 (nmdF G)])) (heith : ∀ sp : zP, sp.1 ≤ n0 → sp.2.2.2 ≤ sp.1 → zMet G yX10_either (ws_ yX10_either cX10_either 1 none) (zRm f9 0 0 lo9) [.ref (ad 99)] [zO (ad 99) 10 (mFs ad (upd (upd (upd (upd (upd iv 8 (nI u)) 7 (nI (d + 1))) 6 (nI sp.1)) 9 (zB (sp.2.1 = true))) 11 (nI sp.2.2.2))), zI (G.2.2.1 0) (ad 0) 602 g, zI (G.2.2.1 0) (ad 10) 60 sp.2.2.1, zQr (G.2.2.1 6) (ad 5) 4 (nmdF G)] (fun v9 b9 => v9 = none ∧ b9 = [zO (ad 99) 10 (mFs ad (upd (upd (upd (upd (upd iv 8 (nI u)) 7 (nI (d + 1))) 6 (nI ((eithF g n0 one sp).1))) 9 (zB ((eithF g n0 one sp).2.1 = true))) 11 (nI ((eithF g n0 one sp).2.2.2)))), zI (G.2.2.1 0) (ad 0) 602 g, zI (G.2.2.1 0) (ad 10) 60 ((eithF g n0 one sp).2.2.1), zQr (G.2.2.1 6) (ad 5) 4 (nmdF G)])) (h1 : sp.1 ≤ n0) (h2 : sp.2.2.2 ≤ sp.1) : zMet G yX10_one (ws_ yX10_one cX10_one 4 none) (zRm (f9 + 1) 0 0 (lo9 + 60)) [.ref (ad 99)] [zO (ad 99) 10 (mFs ad (upd (upd (upd (upd (upd iv 8 (nI u)) 7 (nI d)) 6 (nI sp.1)) 9 (zB (sp.2.1 = true))) 11 (nI sp.2.2.2))), zI (G.2.2.1 0) (ad 0) 602 g, zI (G.2.2.1 0) (ad 10) 60 sp.2.2.1, zQr (G.2.2.1 6) (ad 5) 4 (nmdF G)] (fun v9 b9 => v9 = none ∧ b9 = [zO (ad 99) 10 (mFs ad (upd (upd (upd (upd (upd iv 8 (nI u)) 7 (nI d)) 6 (nI ((oneB u g n0 (deepF g n0 one) sp).1))) 9 (zB ((oneB u g n0 (deepF g n0 one) sp).2.1 = true))) 11 (nI ((oneB u g n0 (deepF g n0 one) sp).2.2.2)))), zI (G.2.2.1 0) (ad 0) 602 g, zI (G.2.2.1 0) (ad 10) 60 ((oneB u g n0 (deepF g n0 one) sp).2.2.1), zQr (G.2.2.1 6) (ad 5) 4 (nmdF G)]) := by
  refine zMet.of (by decide +kernel) (Nat.le_of_ble_eq_true rfl) ?_
  intro p e s m args below meth c A hz hA hr hlk hnm9 Q hQ
  refine z_lv (lv' := [(0, .ref (ad 99))]) [0] rfl ?_
  refine z_aload_n hz dX10_one_0 0 rfl rfl ?_
  refine z_callRD (st2 := [.int (hereF g n0 sp)]) hz zKp.mt (zk_V hz (rm := (zRm 0 0 0 0)) (As := []) (rest := []) 0 q2178 q2180 qs53 q95 q2181 (by decide +kernel) ⟨by dsimp only [zRm]; omega, by dsimp only [zRm]; omega⟩ ⟨Nat.le_of_ble_eq_true rfl, Nat.le_of_ble_eq_true rfl⟩ (zRecv (q := (RX10, TX10, 29)) hz (zAt.mt 0 0 rfl rfl) rfl) rfl rfl (Nat.le_of_ble_eq_true rfl) dX10_one_1) (mM_here ad iv g n0 u d sp hn6 hn50 hu h1) (fun H9 L9 h9 => (zPc (zAt.mt 0 0 rfl rfl) h9 (zPc (zAt.mt 1 0 rfl rfl) h9 zP0))) rfl ?_
  refine z_istore_n (lv' := [(0, .ref (ad 99)), (1, .int (hereF g n0 sp))]) hz [1, 0] dX10_one_4 rfl (by decide) rfl ?_
  refine z_iload_n hz dX10_one_5 1 rfl rfl ?_
  refine z_bipush hz 33 dX10_one_6 kb_33 ?_
  refine z_icmp_eq hz 17 dX10_one_8 (by decide) (fun c1 => ?_) (fun c1 => ?_)
  · refine z_aload_n hz dX10_one_17 0 rfl rfl ?_
    refine z_aload_n hz dX10_one_18 0 rfl rfl ?_
    refine z_get (C := RX10) (T := TX10) (N := 29) hz in_X10 (zAt.mt 0 0 rfl rfl) rfl 7 (by decide) q1936 (fun _ h9 => h9) rfl dX10_one_19 ?_
    refine z_iconst hz 5 dX10_one_22 ki_5 ?_
    refine z_icmpN_neT hz rfl kn_5 (by omega) (by decide) 30 dX10_one_23 (by decide) (by omega) ?_
    refine z_iconst hz 0 dX10_one_30 ki_0 ?_
    refine z_put (C := RX10) (T := TX10) (N := 29) hz in_X10 tyX10 tyX10_ok nmX10 0 0 rfl rfl rfl 9 (by decide) q1938 (fun _ h9 => h9) rfl (by decide) (by decide) (Nat.le_of_ble_eq_true rfl) dX10_one_31 ?_
    refine z_bs (bs2 := [zO (ad 99) 10 (mFs ad (upd (upd (upd (upd (upd iv 8 (nI u)) 7 (nI d)) 6 (nI sp.1)) 11 (nI sp.2.2.2)) 9 0)), zI (G.2.2.1 0) (ad 0) 602 g, zI (G.2.2.1 0) (ad 10) 60 sp.2.2.1, zQr (G.2.2.1 6) (ad 5) 4 (nmdF G)]) rfl ?_
    refine z_aload_n hz dX10_one_34 0 rfl rfl ?_
    refine z_get (v := .int 0) (C := RX10) (T := TX10) (N := 29) hz in_X10 (zAt.mt 0 0 rfl rfl) rfl 9 (by decide) q1938 (fun _ h9 => h9) rfl dX10_one_35 ?_
    refine z_if_neF hz 247 dX10_one_38 (by decide) (by decide) ?_
    refine z_aload_n hz dX10_one_41 0 rfl rfl ?_
    refine z_dup hz dX10_one_42 rfl ?_
    refine z_get (C := RX10) (T := TX10) (N := 29) hz in_X10 (zAt.mt 0 0 rfl rfl) rfl 7 (by decide) q1936 (fun _ h9 => h9) rfl dX10_one_43 ?_
    refine z_iconst hz 1 dX10_one_46 ki_1 ?_
    refine z_iaddN hz rfl kn_1 dX10_one_47 ?_
    refine z_put (C := RX10) (T := TX10) (N := 29) hz in_X10 tyX10 tyX10_ok nmX10 0 0 rfl rfl rfl 7 (by decide) q1936 (fun _ h9 => h9) rfl rfl rfl (Nat.le_of_ble_eq_true rfl) dX10_one_48 ?_
    refine z_bs (bs2 := [zO (ad 99) 10 (mFs ad (upd (upd (upd (upd (upd iv 8 (nI u)) 6 (nI sp.1)) 11 (nI sp.2.2.2)) 9 0) 7 (nI (d + 1)))), zI (G.2.2.1 0) (ad 0) 602 g, zI (G.2.2.1 0) (ad 10) 60 sp.2.2.1, zQr (G.2.2.1 6) (ad 5) 4 (nmdF G)]) rfl ?_
    refine z_aload_n hz dX10_one_51 0 rfl rfl ?_
    refine z_dup hz dX10_one_52 rfl ?_
    refine z_get (C := RX10) (T := TX10) (N := 29) hz in_X10 (zAt.mt 0 0 rfl rfl) rfl 6 (by decide) q1935 (fun _ h9 => h9) rfl dX10_one_53 ?_
    refine z_iconst hz 1 dX10_one_56 ki_1 ?_
    refine z_iaddN hz rfl kn_1 dX10_one_57 ?_
    refine z_put (C := RX10) (T := TX10) (N := 29) hz in_X10 tyX10 tyX10_ok nmX10 0 0 rfl rfl rfl 6 (by decide) q1935 (fun _ h9 => h9) rfl rfl rfl (Nat.le_of_ble_eq_true rfl) dX10_one_58 ?_
    refine z_bs (bs2 := [zO (ad 99) 10 (mFs ad (upd (upd (upd (upd (upd iv 8 (nI u)) 11 (nI sp.2.2.2)) 9 0) 7 (nI (d + 1))) 6 (nI (sp.1 + 1)))), zI (G.2.2.1 0) (ad 0) 602 g, zI (G.2.2.1 0) (ad 10) 60 sp.2.2.1, zQr (G.2.2.1 6) (ad 5) 4 (nmdF G)]) rfl ?_
    refine z_iload_n hz dX10_one_61 1 rfl rfl ?_
    refine z_bipush hz 33 dX10_one_62 kb_33 ?_
    refine z_icmp_neF hz 81 dX10_one_64 (by decide) c1 ?_
    refine z_aload_n hz dX10_one_67 0 rfl rfl ?_
    have hl := (here_lt (g := g) (n := n0) (s := sp) (by rw [c1]; decide)).2
    refine z_bs (bs2 := [zO (ad 99) 10 (mFs ad (upd (upd (upd (upd (upd iv 8 (nI u)) 7 (nI (d + 1))) 6 (nI ((sp.1 + 1, false, sp.2.2).1))) 9 (zB ((sp.1 + 1, false, sp.2.2).2.1 = true))) 11 (nI ((sp.1 + 1, false, sp.2.2).2.2.2)))), zI (G.2.2.1 0) (ad 0) 602 g, zI (G.2.2.1 0) (ad 10) 60 ((sp.1 + 1, false, sp.2.2).2.2.1), zQr (G.2.2.1 6) (ad 5) 4 (nmdF G)]) rfl ?_
    refine z_callD (bs2 := [zO (ad 99) 10 (mFs ad (upd (upd (upd (upd (upd iv 8 (nI u)) 7 (nI (d + 1))) 6 (nI ((one (sp.1 + 1, false, sp.2.2)).1))) 9 (zB ((one (sp.1 + 1, false, sp.2.2)).2.1 = true))) 11 (nI ((one (sp.1 + 1, false, sp.2.2)).2.2.2)))), zI (G.2.2.1 0) (ad 0) 602 g, zI (G.2.2.1 0) (ad 10) 60 ((one (sp.1 + 1, false, sp.2.2)).2.2.1), zQr (G.2.2.1 6) (ad 5) 4 (nmdF G)]) (st2 := []) hz hA (zk_V hz (rm := (zRm f8 0 0 lo8)) (As := []) (rest := []) 0 q2174 q2176 qs52 q95 q2177 (by decide +kernel) ⟨by dsimp only [zRm]; omega, by dsimp only [zRm]; omega⟩ ⟨Nat.le_of_ble_eq_true rfl, Nat.le_of_ble_eq_true rfl⟩ (zRecv (q := (RX10, TX10, 29)) hz (zAt.mt 0 0 rfl rfl) rfl) rfl rfl (Nat.le_of_ble_eq_true rfl) dX10_one_68) (hone (sp.1 + 1, false, sp.2.2) hl (show sp.2.2.2 ≤ sp.1 + 1 by omega)) [0, 1, 2, 3] rfl (by decide) rfl rfl ?_
    have hq := hgd (sp.1 + 1, false, sp.2.2) hl (show sp.2.2.2 ≤ sp.1 + 1 by omega)
    generalize hQE : (one (sp.1 + 1, false, sp.2.2)) = q9 at hq ⊢
    have hq1 : sp.1 + 1 ≤ q9.1 := hq.1
    have hq2 := hq.2.1
    have hq3 : q9.2.2.2 + (sp.1 + 1) ≤ sp.2.2.2 + q9.1 := hq.2.2
    refine z_aload_n hz dX10_one_71 0 rfl rfl ?_
    refine z_sipush hz 20010 dX10_one_72 ks_20010 ?_
    refine z_callD (bs2 := [zO (ad 99) 10 (mFs ad (upd (upd (upd (upd (upd iv 8 (nI u)) 7 (nI (d + 1))) 6 (nI ((emF 20010 q9).1))) 9 (zB ((emF 20010 q9).2.1 = true))) 11 (nI ((emF 20010 q9).2.2.2)))), zI (G.2.2.1 0) (ad 0) 602 g, zI (G.2.2.1 0) (ad 10) 60 ((emF 20010 q9).2.2.1), zQr (G.2.2.1 6) (ad 5) 4 (nmdF G)]) (st2 := []) hz hA (zk_V hz (rm := (zRm 0 0 0 0)) (As := [.int 20010]) (rest := []) 1 q2182 q2184 qs54 q95 q2185 (by decide +kernel) ⟨by dsimp only [zRm]; omega, by dsimp only [zRm]; omega⟩ ⟨Nat.le_of_ble_eq_true rfl, Nat.le_of_ble_eq_true rfl⟩ (zRecv (q := (RX10, TX10, 29)) hz (zAt.mt 0 0 rfl rfl) rfl) rfl rfl (Nat.le_of_ble_eq_true rfl) dX10_one_75) (mM_codes ad iv u (d + 1) q9 20010 (by omega)) [0, 2] rfl (by decide) rfl rfl ?_
    refine z_bs (bs2 := [zO (ad 99) 10 (mFs ad (upd (upd (upd (upd (upd iv 8 (nI u)) 7 (nI (d + 1))) 6 (nI ((emF 20010 q9).1))) 9 (zB ((emF 20010 q9).2.1 = true))) 11 (nI ((emF 20010 q9).2.2.2)))), zI (G.2.2.1 0) (ad 0) 602 g, zI (G.2.2.1 0) (ad 10) 60 ((emF 20010 q9).2.2.1), zQr (G.2.2.1 6) (ad 5) 4 (nmdF G)]) rfl ?_
    refine z_goto hz 103 dX10_one_78 (by decide) ?_
    refine z_aload_n hz dX10_one_103 0 rfl rfl ?_
    refine z_dup hz dX10_one_104 rfl ?_
    refine z_get (C := RX10) (T := TX10) (N := 29) hz in_X10 (zAt.mt 0 0 rfl rfl) rfl 7 (by decide) q1936 (fun _ h9 => h9) rfl dX10_one_105 ?_
    refine z_iconst hz 1 dX10_one_108 ki_1 ?_
    refine z_isubN hz rfl kn_1 (by omega) dX10_one_109 ?_
    refine z_put (C := RX10) (T := TX10) (N := 29) hz in_X10 tyX10 tyX10_ok nmX10 0 0 rfl rfl rfl 7 (by decide) q1936 (fun _ h9 => h9) rfl rfl rfl (Nat.le_of_ble_eq_true rfl) dX10_one_110 ?_
    refine z_bs (bs2 := [zO (ad 99) 10 (mFs ad (upd (upd (upd (upd (upd iv 8 (nI u)) 6 (nI ((emF 20010 q9).1))) 9 (zB ((emF 20010 q9).2.1 = true))) 11 (nI ((emF 20010 q9).2.2.2))) 7 (nI ((d + 1) - 1)))), zI (G.2.2.1 0) (ad 0) 602 g, zI (G.2.2.1 0) (ad 10) 60 ((emF 20010 q9).2.2.1), zQr (G.2.2.1 6) (ad 5) 4 (nmdF G)]) rfl ?_
    refine z_bs (bs2 := [zO (ad 99) 10 (mFs ad (upd (upd (upd (upd (upd iv 8 (nI u)) 7 (nI d)) 6 (nI ((emF 20010 q9).1))) 9 (zB ((emF 20010 q9).2.1 = true))) 11 (nI ((emF 20010 q9).2.2.2)))), zI (G.2.2.1 0) (ad 0) 602 g, zI (G.2.2.1 0) (ad 10) 60 ((emF 20010 q9).2.2.1), zQr (G.2.2.1 6) (ad 5) 4 (nmdF G)]) rfl ?_
    refine z_goto hz 247 dX10_one_113 (by decide) ?_
    exact z_vret hQ hz hr hlk dX10_one_247 ⟨rfl, (by rw [show oneB u g n0 (deepF g n0 one) sp = emF 20010 q9 from (if_pos (Or.inl c1)).trans (show deepF g n0 one sp = emF 20010 q9 from by unfold deepF; rw [if_pos c1, hQE])])⟩
  · refine z_iload_n hz dX10_one_11 1 rfl rfl ?_
    refine z_bipush hz 40 dX10_one_12 kb_40 ?_
    refine z_icmp_ne hz 116 dX10_one_14 (by decide) (fun c2 => ?_) (fun c2 => ?_)
    · refine z_iload_n hz dX10_one_116 1 rfl rfl ?_
      refine z_bipush hz 48 dX10_one_117 kb_48 ?_
      refine z_bipush hz 57 dX10_one_119 kb_57 ?_
      refine z_callRD (st2 := [.int (zB (inR (hereF g n0 sp) 48 57))]) hz zKp.mt (zk_S hz (rm := (zRm 0 0 0 0)) (As := [.int (hereF g n0 sp), .int 48, .int 57]) (rest := []) 3 q2023 q2024 q95 q2025 (by decide +kernel) ⟨by dsimp only [zRm]; omega, by dsimp only [zRm]; omega⟩ ⟨Nat.le_of_ble_eq_true rfl, Nat.le_of_ble_eq_true rfl⟩ rfl rfl (Nat.le_of_ble_eq_true rfl) dX10_one_121) (mM_within (hereF g n0 sp) 48 57) (fun _ _ _ => zP0) rfl ?_
      refine z_ifB_eq hz 187 dX10_one_124 (by decide) (fun c3 => ?_) (fun c3 => ?_)
      · refine z_iload_n hz dX10_one_187 1 rfl rfl ?_
        refine z_if_ge hz 195 dX10_one_188 (by decide) (fun c4 => ?_) (fun c4 => ?_)
        · refine z_aload_n hz dX10_one_195 0 rfl rfl ?_
          refine z_iload_n hz dX10_one_196 1 rfl rfl ?_
          refine z_callRD (st2 := [.int (nmF u (hereF g n0 sp) (zLen.getD u 0))]) hz zKp.mt (zk_V hz (rm := (zRm 4 0 0 130)) (As := [.int (hereF g n0 sp)]) (rest := []) 1 q2190 q2192 qs56 q95 q2193 (by decide +kernel) ⟨by dsimp only [zRm]; omega, by dsimp only [zRm]; omega⟩ ⟨Nat.le_of_ble_eq_true rfl, Nat.le_of_ble_eq_true rfl⟩ (zRecv (q := (RX10, TX10, 29)) hz (zAt.mt 0 0 rfl rfl) rfl) rfl rfl (Nat.le_of_ble_eq_true rfl) dX10_one_197) (mM_nameOf ad iv u d sp hu (hereF g n0 sp)) (fun H9 L9 h9 => (zPc (zAt.mt 0 0 rfl rfl) h9 (zPc (zAt.mt 3 0 rfl rfl) h9 zP0))) rfl ?_
          refine z_istore_n (lv' := [(0, .ref (ad 99)), (1, .int (hereF g n0 sp)), (2, .int (nmF u (hereF g n0 sp) (zLen.getD u 0)))]) hz [1, 2, 0] dX10_one_200 rfl (by decide) rfl ?_
          have hnm : nameF u (hereF g n0 sp) = nmF u (hereF g n0 sp) (zLen.getD u 0) := if_neg (Int32.not_lt.mpr c4)
          refine z_aload_n hz dX10_one_201 0 rfl rfl ?_
          refine z_aload_n hz dX10_one_202 0 rfl rfl ?_
          refine z_get (C := RX10) (T := TX10) (N := 29) hz in_X10 (zAt.mt 0 0 rfl rfl) rfl 9 (by decide) q1938 (fun _ h9 => h9) rfl dX10_one_203 ?_
          refine z_ifB_ne hz 213 dX10_one_206 (by decide) (fun c5 => ?_) (fun c5 => ?_)
          · refine z_iconst hz 1 dX10_one_213 ki_1 ?_
            refine z_goto hz 218 dX10_one_214 (by decide) ?_
            have hbad : sp.2.1 = true ∨ nameF u (hereF g n0 sp) < 0 := Or.inl c5
            refine z_put (C := RX10) (T := TX10) (N := 29) hz in_X10 tyX10 tyX10_ok nmX10 0 0 rfl rfl rfl 9 (by decide) q1938 (fun _ h9 => h9) rfl (by decide) (by decide) (Nat.le_of_ble_eq_true rfl) dX10_one_218 ?_
            refine z_bs (bs2 := [zO (ad 99) 10 (mFs ad (upd (upd (upd (upd (upd iv 8 (nI u)) 7 (nI d)) 6 (nI sp.1)) 11 (nI sp.2.2.2)) 9 1)), zI (G.2.2.1 0) (ad 0) 602 g, zI (G.2.2.1 0) (ad 10) 60 sp.2.2.1, zQr (G.2.2.1 6) (ad 5) 4 (nmdF G)]) rfl ?_
            refine z_bs (bs2 := [zO (ad 99) 10 (mFs ad (upd (upd (upd (upd (upd iv 8 (nI u)) 7 (nI d)) 6 (nI ((wrgF sp).1))) 9 (zB ((wrgF sp).2.1 = true))) 11 (nI ((wrgF sp).2.2.2)))), zI (G.2.2.1 0) (ad 0) 602 g, zI (G.2.2.1 0) (ad 10) 60 ((wrgF sp).2.2.1), zQr (G.2.2.1 6) (ad 5) 4 (nmdF G)]) rfl ?_
            refine z_aload_n hz dX10_one_221 0 rfl rfl ?_
            refine z_get (C := RX10) (T := TX10) (N := 29) hz in_X10 (zAt.mt 0 0 rfl rfl) rfl 9 (by decide) q1938 (fun _ h9 => h9) rfl dX10_one_222 ?_
            refine z_ifB_neT hz 247 dX10_one_225 (by decide) (rfl : (wrgF sp).2.1 = true) ?_
            exact z_vret hQ hz hr hlk dX10_one_247 ⟨rfl, (by rw [show oneB u g n0 (deepF g n0 one) sp = wrgF sp from ((if_neg (fun h9 => h9.elim c1 c2)).trans (if_neg c3)).trans (if_pos hbad)])⟩
          · refine z_iload_n hz dX10_one_209 2 rfl rfl ?_
            refine z_if_ge hz 217 dX10_one_210 (by decide) (fun c6 => ?_) (fun c6 => ?_)
            · refine z_iconst hz 0 dX10_one_217 ki_0 ?_
              have hgood : ¬ (sp.2.1 = true ∨ nameF u (hereF g n0 sp) < 0) := fun h9 => h9.elim c5 (fun h8 => by rw [hnm] at h8; exact (Int32.not_lt.mpr c6) h8)
              refine z_put (C := RX10) (T := TX10) (N := 29) hz in_X10 tyX10 tyX10_ok nmX10 0 0 rfl rfl rfl 9 (by decide) q1938 (fun _ h9 => h9) rfl (by decide) (by decide) (Nat.le_of_ble_eq_true rfl) dX10_one_218 ?_
              refine z_bs (bs2 := [zO (ad 99) 10 (mFs ad (upd (upd (upd (upd (upd iv 8 (nI u)) 7 (nI d)) 6 (nI sp.1)) 11 (nI sp.2.2.2)) 9 0)), zI (G.2.2.1 0) (ad 0) 602 g, zI (G.2.2.1 0) (ad 10) 60 sp.2.2.1, zQr (G.2.2.1 6) (ad 5) 4 (nmdF G)]) rfl ?_
              have hwf : sp.2.1 = false := by cases h9 : sp.2.1 with
                | false => rfl
                | true => exact absurd (Or.inl h9) hgood
              refine z_aload_n hz dX10_one_221 0 rfl rfl ?_
              refine z_get (v := .int 0) (C := RX10) (T := TX10) (N := 29) hz in_X10 (zAt.mt 0 0 rfl rfl) rfl 9 (by decide) q1938 (fun _ h9 => h9) rfl dX10_one_222 ?_
              refine z_if_neF hz 247 dX10_one_225 (by decide) (by decide) ?_
              refine z_bs (bs2 := [zO (ad 99) 10 (mFs ad (upd (upd (upd (upd (upd iv 8 (nI u)) 7 (nI d)) 6 (nI sp.1)) 9 (zB (sp.2.1 = true))) 11 (nI sp.2.2.2))), zI (G.2.2.1 0) (ad 0) 602 g, zI (G.2.2.1 0) (ad 10) 60 sp.2.2.1, zQr (G.2.2.1 6) (ad 5) 4 (nmdF G)]) (by rw [zB_f (P := sp.2.1 = true) (by rw [hwf]; decide)]; rfl) ?_
              refine z_aload_n hz dX10_one_228 0 rfl rfl ?_
              refine z_sipush hz 10000 dX10_one_229 ks_10000 ?_
              refine z_iload_n hz dX10_one_232 2 rfl rfl ?_
              refine z_iadd hz dX10_one_233 ?_
              refine z_callD (bs2 := [zO (ad 99) 10 (mFs ad (upd (upd (upd (upd (upd iv 8 (nI u)) 7 (nI d)) 6 (nI ((emF (10000 + (nmF u (hereF g n0 sp) (zLen.getD u 0))) sp).1))) 9 (zB ((emF (10000 + (nmF u (hereF g n0 sp) (zLen.getD u 0))) sp).2.1 = true))) 11 (nI ((emF (10000 + (nmF u (hereF g n0 sp) (zLen.getD u 0))) sp).2.2.2)))), zI (G.2.2.1 0) (ad 0) 602 g, zI (G.2.2.1 0) (ad 10) 60 ((emF (10000 + (nmF u (hereF g n0 sp) (zLen.getD u 0))) sp).2.2.1), zQr (G.2.2.1 6) (ad 5) 4 (nmdF G)]) (st2 := []) hz hA (zk_V hz (rm := (zRm 0 0 0 0)) (As := [.int (10000 + (nmF u (hereF g n0 sp) (zLen.getD u 0)))]) (rest := []) 1 q2182 q2184 qs54 q95 q2185 (by decide +kernel) ⟨by dsimp only [zRm]; omega, by dsimp only [zRm]; omega⟩ ⟨Nat.le_of_ble_eq_true rfl, Nat.le_of_ble_eq_true rfl⟩ (zRecv (q := (RX10, TX10, 29)) hz (zAt.mt 0 0 rfl rfl) rfl) rfl rfl (Nat.le_of_ble_eq_true rfl) dX10_one_234) (mM_codes ad iv u d sp (10000 + (nmF u (hereF g n0 sp) (zLen.getD u 0))) (by omega)) [0, 2] rfl (by decide) rfl rfl ?_
              refine z_bs (bs2 := [zO (ad 99) 10 (mFs ad (upd (upd (upd (upd (upd iv 8 (nI u)) 7 (nI d)) 6 (nI ((emF (10000 + (nmF u (hereF g n0 sp) (zLen.getD u 0))) sp).1))) 9 (zB ((emF (10000 + (nmF u (hereF g n0 sp) (zLen.getD u 0))) sp).2.1 = true))) 11 (nI ((emF (10000 + (nmF u (hereF g n0 sp) (zLen.getD u 0))) sp).2.2.2)))), zI (G.2.2.1 0) (ad 0) 602 g, zI (G.2.2.1 0) (ad 10) 60 ((emF (10000 + (nmF u (hereF g n0 sp) (zLen.getD u 0))) sp).2.2.1), zQr (G.2.2.1 6) (ad 5) 4 (nmdF G)]) rfl ?_
              refine z_aload_n hz dX10_one_237 0 rfl rfl ?_
              refine z_dup hz dX10_one_238 rfl ?_
              refine z_get (C := RX10) (T := TX10) (N := 29) hz in_X10 (zAt.mt 0 0 rfl rfl) rfl 6 (by decide) q1935 (fun _ h9 => h9) rfl dX10_one_239 ?_
              refine z_iconst hz 1 dX10_one_242 ki_1 ?_
              refine z_iaddN hz rfl kn_1 dX10_one_243 ?_
              refine z_put (C := RX10) (T := TX10) (N := 29) hz in_X10 tyX10 tyX10_ok nmX10 0 0 rfl rfl rfl 6 (by decide) q1935 (fun _ h9 => h9) rfl rfl rfl (Nat.le_of_ble_eq_true rfl) dX10_one_244 ?_
              refine z_bs (bs2 := [zO (ad 99) 10 (mFs ad (upd (upd (upd (upd (upd iv 8 (nI u)) 7 (nI d)) 9 (zB ((emF (10000 + (nmF u (hereF g n0 sp) (zLen.getD u 0))) sp).2.1 = true))) 11 (nI ((emF (10000 + (nmF u (hereF g n0 sp) (zLen.getD u 0))) sp).2.2.2))) 6 (nI (((emF (10000 + (nmF u (hereF g n0 sp) (zLen.getD u 0))) sp).1) + 1)))), zI (G.2.2.1 0) (ad 0) 602 g, zI (G.2.2.1 0) (ad 10) 60 ((emF (10000 + (nmF u (hereF g n0 sp) (zLen.getD u 0))) sp).2.2.1), zQr (G.2.2.1 6) (ad 5) 4 (nmdF G)]) rfl ?_
              refine z_bs (bs2 := [zO (ad 99) 10 (mFs ad (upd (upd (upd (upd (upd iv 8 (nI u)) 7 (nI d)) 6 (nI ((advF (emF (10000 + (nmF u (hereF g n0 sp) (zLen.getD u 0))) sp)).1))) 9 (zB ((advF (emF (10000 + (nmF u (hereF g n0 sp) (zLen.getD u 0))) sp)).2.1 = true))) 11 (nI ((advF (emF (10000 + (nmF u (hereF g n0 sp) (zLen.getD u 0))) sp)).2.2.2)))), zI (G.2.2.1 0) (ad 0) 602 g, zI (G.2.2.1 0) (ad 10) 60 ((advF (emF (10000 + (nmF u (hereF g n0 sp) (zLen.getD u 0))) sp)).2.2.1), zQr (G.2.2.1 6) (ad 5) 4 (nmdF G)]) rfl ?_
              exact z_vret hQ hz hr hlk dX10_one_247 ⟨rfl, (by rw [show oneB u g n0 (deepF g n0 one) sp = advF (emF (10000 + nmF u (hereF g n0 sp) (zLen.getD u 0)) sp) from ((if_neg (fun h9 => h9.elim c1 c2)).trans (if_neg c3)).trans ((if_neg hgood).trans (by rw [hnm]))])⟩
            · refine z_iconst hz 1 dX10_one_213 ki_1 ?_
              refine z_goto hz 218 dX10_one_214 (by decide) ?_
              have hbad : sp.2.1 = true ∨ nameF u (hereF g n0 sp) < 0 := Or.inr (by rw [hnm]; exact (Int32.not_le.mp c6))
              refine z_put (C := RX10) (T := TX10) (N := 29) hz in_X10 tyX10 tyX10_ok nmX10 0 0 rfl rfl rfl 9 (by decide) q1938 (fun _ h9 => h9) rfl (by decide) (by decide) (Nat.le_of_ble_eq_true rfl) dX10_one_218 ?_
              refine z_bs (bs2 := [zO (ad 99) 10 (mFs ad (upd (upd (upd (upd (upd iv 8 (nI u)) 7 (nI d)) 6 (nI sp.1)) 11 (nI sp.2.2.2)) 9 1)), zI (G.2.2.1 0) (ad 0) 602 g, zI (G.2.2.1 0) (ad 10) 60 sp.2.2.1, zQr (G.2.2.1 6) (ad 5) 4 (nmdF G)]) rfl ?_
              refine z_bs (bs2 := [zO (ad 99) 10 (mFs ad (upd (upd (upd (upd (upd iv 8 (nI u)) 7 (nI d)) 6 (nI ((wrgF sp).1))) 9 (zB ((wrgF sp).2.1 = true))) 11 (nI ((wrgF sp).2.2.2)))), zI (G.2.2.1 0) (ad 0) 602 g, zI (G.2.2.1 0) (ad 10) 60 ((wrgF sp).2.2.1), zQr (G.2.2.1 6) (ad 5) 4 (nmdF G)]) rfl ?_
              refine z_aload_n hz dX10_one_221 0 rfl rfl ?_
              refine z_get (C := RX10) (T := TX10) (N := 29) hz in_X10 (zAt.mt 0 0 rfl rfl) rfl 9 (by decide) q1938 (fun _ h9 => h9) rfl dX10_one_222 ?_
              refine z_ifB_neT hz 247 dX10_one_225 (by decide) (rfl : (wrgF sp).2.1 = true) ?_
              exact z_vret hQ hz hr hlk dX10_one_247 ⟨rfl, (by rw [show oneB u g n0 (deepF g n0 one) sp = wrgF sp from ((if_neg (fun h9 => h9.elim c1 c2)).trans (if_neg c3)).trans (if_pos hbad)])⟩
        · refine z_iconst hz (-1) dX10_one_191 ki_m1 ?_
          refine z_goto hz 200 dX10_one_192 (by decide) ?_
          refine z_istore_n (lv' := [(0, .ref (ad 99)), (1, .int (hereF g n0 sp)), (2, .int (-1))]) hz [1, 2, 0] dX10_one_200 rfl (by decide) rfl ?_
          have hnm : nameF u (hereF g n0 sp) = (-1) := if_pos (Int32.not_le.mp c4)
          refine z_aload_n hz dX10_one_201 0 rfl rfl ?_
          refine z_aload_n hz dX10_one_202 0 rfl rfl ?_
          refine z_get (C := RX10) (T := TX10) (N := 29) hz in_X10 (zAt.mt 0 0 rfl rfl) rfl 9 (by decide) q1938 (fun _ h9 => h9) rfl dX10_one_203 ?_
          refine z_ifB_ne hz 213 dX10_one_206 (by decide) (fun c7 => ?_) (fun c7 => ?_)
          · refine z_iconst hz 1 dX10_one_213 ki_1 ?_
            refine z_goto hz 218 dX10_one_214 (by decide) ?_
            have hbad : sp.2.1 = true ∨ nameF u (hereF g n0 sp) < 0 := Or.inl c7
            refine z_put (C := RX10) (T := TX10) (N := 29) hz in_X10 tyX10 tyX10_ok nmX10 0 0 rfl rfl rfl 9 (by decide) q1938 (fun _ h9 => h9) rfl (by decide) (by decide) (Nat.le_of_ble_eq_true rfl) dX10_one_218 ?_
            refine z_bs (bs2 := [zO (ad 99) 10 (mFs ad (upd (upd (upd (upd (upd iv 8 (nI u)) 7 (nI d)) 6 (nI sp.1)) 11 (nI sp.2.2.2)) 9 1)), zI (G.2.2.1 0) (ad 0) 602 g, zI (G.2.2.1 0) (ad 10) 60 sp.2.2.1, zQr (G.2.2.1 6) (ad 5) 4 (nmdF G)]) rfl ?_
            refine z_bs (bs2 := [zO (ad 99) 10 (mFs ad (upd (upd (upd (upd (upd iv 8 (nI u)) 7 (nI d)) 6 (nI ((wrgF sp).1))) 9 (zB ((wrgF sp).2.1 = true))) 11 (nI ((wrgF sp).2.2.2)))), zI (G.2.2.1 0) (ad 0) 602 g, zI (G.2.2.1 0) (ad 10) 60 ((wrgF sp).2.2.1), zQr (G.2.2.1 6) (ad 5) 4 (nmdF G)]) rfl ?_
            refine z_aload_n hz dX10_one_221 0 rfl rfl ?_
            refine z_get (C := RX10) (T := TX10) (N := 29) hz in_X10 (zAt.mt 0 0 rfl rfl) rfl 9 (by decide) q1938 (fun _ h9 => h9) rfl dX10_one_222 ?_
            refine z_ifB_neT hz 247 dX10_one_225 (by decide) (rfl : (wrgF sp).2.1 = true) ?_
            exact z_vret hQ hz hr hlk dX10_one_247 ⟨rfl, (by rw [show oneB u g n0 (deepF g n0 one) sp = wrgF sp from ((if_neg (fun h9 => h9.elim c1 c2)).trans (if_neg c3)).trans (if_pos hbad)])⟩
          · refine z_iload_n hz dX10_one_209 2 rfl rfl ?_
            refine z_if_geF hz 217 dX10_one_210 (by decide) (by decide) ?_
            refine z_iconst hz 1 dX10_one_213 ki_1 ?_
            refine z_goto hz 218 dX10_one_214 (by decide) ?_
            have hbad : sp.2.1 = true ∨ nameF u (hereF g n0 sp) < 0 := Or.inr (by rw [hnm]; decide)
            refine z_put (C := RX10) (T := TX10) (N := 29) hz in_X10 tyX10 tyX10_ok nmX10 0 0 rfl rfl rfl 9 (by decide) q1938 (fun _ h9 => h9) rfl (by decide) (by decide) (Nat.le_of_ble_eq_true rfl) dX10_one_218 ?_
            refine z_bs (bs2 := [zO (ad 99) 10 (mFs ad (upd (upd (upd (upd (upd iv 8 (nI u)) 7 (nI d)) 6 (nI sp.1)) 11 (nI sp.2.2.2)) 9 1)), zI (G.2.2.1 0) (ad 0) 602 g, zI (G.2.2.1 0) (ad 10) 60 sp.2.2.1, zQr (G.2.2.1 6) (ad 5) 4 (nmdF G)]) rfl ?_
            refine z_bs (bs2 := [zO (ad 99) 10 (mFs ad (upd (upd (upd (upd (upd iv 8 (nI u)) 7 (nI d)) 6 (nI ((wrgF sp).1))) 9 (zB ((wrgF sp).2.1 = true))) 11 (nI ((wrgF sp).2.2.2)))), zI (G.2.2.1 0) (ad 0) 602 g, zI (G.2.2.1 0) (ad 10) 60 ((wrgF sp).2.2.1), zQr (G.2.2.1 6) (ad 5) 4 (nmdF G)]) rfl ?_
            refine z_aload_n hz dX10_one_221 0 rfl rfl ?_
            refine z_get (C := RX10) (T := TX10) (N := 29) hz in_X10 (zAt.mt 0 0 rfl rfl) rfl 9 (by decide) q1938 (fun _ h9 => h9) rfl dX10_one_222 ?_
            refine z_ifB_neT hz 247 dX10_one_225 (by decide) (rfl : (wrgF sp).2.1 = true) ?_
            exact z_vret hQ hz hr hlk dX10_one_247 ⟨rfl, (by rw [show oneB u g n0 (deepF g n0 one) sp = wrgF sp from ((if_neg (fun h9 => h9.elim c1 c2)).trans (if_neg c3)).trans (if_pos hbad)])⟩
      · refine z_iconst hz 0 dX10_one_127 ki_0 ?_
        refine z_istore_n (lv' := [(0, .ref (ad 99)), (1, .int (hereF g n0 sp)), (2, .int 0)]) hz [1, 2, 0] dX10_one_128 rfl (by decide) rfl ?_
        refine z_iconst hz 0 dX10_one_129 ki_0 ?_
        refine z_istore_n (lv' := [(0, .ref (ad 99)), (1, .int (hereF g n0 sp)), (2, .int 0), (3, .int 0)]) hz [1, 2, 3, 0] dX10_one_130 rfl (by decide) rfl ?_
        have lp_131 : ∀ (n9 : Nat) (k : Nat) (v9 : Int32), k ≤ 4 → v9 = (nuF g n0 sp k).1 → 4 - k < n9 → zW p G.1 e (zRm (f9 + 1) 0 0 (lo9 + 60)) s m args below meth c 4 Q 0 0 (zΦ G A s [zO (ad 99) 10 (mFs ad (upd (upd (upd (upd (upd iv 8 (nI u)) 7 (nI d)) 6 (nI (((nuF g n0 sp k).2).1))) 9 (zB (((nuF g n0 sp k).2).2.1 = true))) 11 (nI (((nuF g n0 sp k).2).2.2.2)))), zI (G.2.2.1 0) (ad 0) 602 g, zI (G.2.2.1 0) (ad 10) 60 (((nuF g n0 sp k).2).2.2.1), zQr (G.2.2.1 6) (ad 5) 4 (nmdF G)]) 131 [(0, .ref (ad 99)), (1, .int (hereF g n0 sp)), (2, .int v9), (3, .int (nI k))] [] := by
          intro n9
          induction n9 with
          | zero => intro _ _ _ _ hm; exact absurd hm (Nat.not_lt_zero _)
          | succ n9 ih_131 =>
            intro k v9 hk hv hm_131
            have hnb := nuF_b (g := g) (n := n0) (s := sp) h1 k
            refine z_iload_n hz dX10_one_131 3 rfl rfl ?_
            refine z_iconst hz 4 dX10_one_132 ki_4 ?_
            refine z_icmpN_ge hz rfl kn_4 (by omega) (by decide) 179 dX10_one_133 (by decide) (fun c8 => ?_) (fun c8 => ?_)
            · have hN : nuF g n0 sp 4 = nuF g n0 sp k := by rw [show 4 = k by omega]
              refine z_aload_n hz dX10_one_179 0 rfl rfl ?_
              have h60 : (nuF g n0 sp k).2.2.2.2 < 60 := by rw [show (nuF g n0 sp k).2.2.2.2 = sp.2.2.2 by rw [hnb.2.2]]; omega
              refine z_iload_n hz dX10_one_180 2 rfl rfl ?_
              refine z_callD (bs2 := [zO (ad 99) 10 (mFs ad (upd (upd (upd (upd (upd iv 8 (nI u)) 7 (nI d)) 6 (nI ((emF v9 ((nuF g n0 sp k).2)).1))) 9 (zB ((emF v9 ((nuF g n0 sp k).2)).2.1 = true))) 11 (nI ((emF v9 ((nuF g n0 sp k).2)).2.2.2)))), zI (G.2.2.1 0) (ad 0) 602 g, zI (G.2.2.1 0) (ad 10) 60 ((emF v9 ((nuF g n0 sp k).2)).2.2.1), zQr (G.2.2.1 6) (ad 5) 4 (nmdF G)]) (st2 := []) hz hA (zk_V hz (rm := (zRm 0 0 0 0)) (As := [.int v9]) (rest := []) 1 q2182 q2184 qs54 q95 q2185 (by decide +kernel) ⟨by dsimp only [zRm]; omega, by dsimp only [zRm]; omega⟩ ⟨Nat.le_of_ble_eq_true rfl, Nat.le_of_ble_eq_true rfl⟩ (zRecv (q := (RX10, TX10, 29)) hz (zAt.mt 0 0 rfl rfl) rfl) rfl rfl (Nat.le_of_ble_eq_true rfl) dX10_one_181) (mM_codes ad iv u d ((nuF g n0 sp k).2) v9 h60) [0, 2] rfl (by decide) rfl rfl ?_
              refine z_bs (bs2 := [zO (ad 99) 10 (mFs ad (upd (upd (upd (upd (upd iv 8 (nI u)) 7 (nI d)) 6 (nI ((emF v9 ((nuF g n0 sp k).2)).1))) 9 (zB ((emF v9 ((nuF g n0 sp k).2)).2.1 = true))) 11 (nI ((emF v9 ((nuF g n0 sp k).2)).2.2.2)))), zI (G.2.2.1 0) (ad 0) 602 g, zI (G.2.2.1 0) (ad 10) 60 ((emF v9 ((nuF g n0 sp k).2)).2.2.1), zQr (G.2.2.1 6) (ad 5) 4 (nmdF G)]) rfl ?_
              refine z_goto hz 247 dX10_one_184 (by decide) ?_
              exact z_vret hQ hz hr hlk dX10_one_247 ⟨rfl, (by rw [show oneB u g n0 (deepF g n0 one) sp = emF v9 (nuF g n0 sp k).2 from ((if_neg (fun h9 => h9.elim c1 c2)).trans (if_pos c3)).trans (by rw [hN, ← hv])])⟩
            · refine z_aload_n hz dX10_one_136 0 rfl rfl ?_
              refine z_callRD (st2 := [.int (hereF g n0 ((nuF g n0 sp k).2))]) hz zKp.mt (zk_V hz (rm := (zRm 0 0 0 0)) (As := []) (rest := []) 0 q2178 q2180 qs53 q95 q2181 (by decide +kernel) ⟨by dsimp only [zRm]; omega, by dsimp only [zRm]; omega⟩ ⟨Nat.le_of_ble_eq_true rfl, Nat.le_of_ble_eq_true rfl⟩ (zRecv (q := (RX10, TX10, 29)) hz (zAt.mt 0 0 rfl rfl) rfl) rfl rfl (Nat.le_of_ble_eq_true rfl) dX10_one_137) (mM_here ad iv g n0 u d ((nuF g n0 sp k).2) hn6 hn50 hu hnb.2.1) (fun H9 L9 h9 => (zPc (zAt.mt 0 0 rfl rfl) h9 (zPc (zAt.mt 1 0 rfl rfl) h9 zP0))) rfl ?_
              refine z_bipush hz 48 dX10_one_140 kb_48 ?_
              refine z_bipush hz 57 dX10_one_142 kb_57 ?_
              refine z_callRD (st2 := [.int (zB (inR (hereF g n0 ((nuF g n0 sp k).2)) 48 57))]) hz zKp.mt (zk_S hz (rm := (zRm 0 0 0 0)) (As := [.int (hereF g n0 ((nuF g n0 sp k).2)), .int 48, .int 57]) (rest := []) 3 q2023 q2024 q95 q2025 (by decide +kernel) ⟨by dsimp only [zRm]; omega, by dsimp only [zRm]; omega⟩ ⟨Nat.le_of_ble_eq_true rfl, Nat.le_of_ble_eq_true rfl⟩ rfl rfl (Nat.le_of_ble_eq_true rfl) dX10_one_144) (mM_within (hereF g n0 ((nuF g n0 sp k).2)) 48 57) (fun _ _ _ => zP0) rfl ?_
              refine z_ifB_eq hz 179 dX10_one_147 (by decide) (fun c9 => ?_) (fun c9 => ?_)
              · have hN : nuF g n0 sp 4 = nuF g n0 sp k := by rw [show 4 = k + (4 - k) by omega]; exact nuF_end c9 _
                refine z_aload_n hz dX10_one_179 0 rfl rfl ?_
                have h60 : (nuF g n0 sp k).2.2.2.2 < 60 := by rw [show (nuF g n0 sp k).2.2.2.2 = sp.2.2.2 by rw [hnb.2.2]]; omega
                refine z_iload_n hz dX10_one_180 2 rfl rfl ?_
                refine z_callD (bs2 := [zO (ad 99) 10 (mFs ad (upd (upd (upd (upd (upd iv 8 (nI u)) 7 (nI d)) 6 (nI ((emF v9 ((nuF g n0 sp k).2)).1))) 9 (zB ((emF v9 ((nuF g n0 sp k).2)).2.1 = true))) 11 (nI ((emF v9 ((nuF g n0 sp k).2)).2.2.2)))), zI (G.2.2.1 0) (ad 0) 602 g, zI (G.2.2.1 0) (ad 10) 60 ((emF v9 ((nuF g n0 sp k).2)).2.2.1), zQr (G.2.2.1 6) (ad 5) 4 (nmdF G)]) (st2 := []) hz hA (zk_V hz (rm := (zRm 0 0 0 0)) (As := [.int v9]) (rest := []) 1 q2182 q2184 qs54 q95 q2185 (by decide +kernel) ⟨by dsimp only [zRm]; omega, by dsimp only [zRm]; omega⟩ ⟨Nat.le_of_ble_eq_true rfl, Nat.le_of_ble_eq_true rfl⟩ (zRecv (q := (RX10, TX10, 29)) hz (zAt.mt 0 0 rfl rfl) rfl) rfl rfl (Nat.le_of_ble_eq_true rfl) dX10_one_181) (mM_codes ad iv u d ((nuF g n0 sp k).2) v9 h60) [0, 2] rfl (by decide) rfl rfl ?_
                refine z_bs (bs2 := [zO (ad 99) 10 (mFs ad (upd (upd (upd (upd (upd iv 8 (nI u)) 7 (nI d)) 6 (nI ((emF v9 ((nuF g n0 sp k).2)).1))) 9 (zB ((emF v9 ((nuF g n0 sp k).2)).2.1 = true))) 11 (nI ((emF v9 ((nuF g n0 sp k).2)).2.2.2)))), zI (G.2.2.1 0) (ad 0) 602 g, zI (G.2.2.1 0) (ad 10) 60 ((emF v9 ((nuF g n0 sp k).2)).2.2.1), zQr (G.2.2.1 6) (ad 5) 4 (nmdF G)]) rfl ?_
                refine z_goto hz 247 dX10_one_184 (by decide) ?_
                exact z_vret hQ hz hr hlk dX10_one_247 ⟨rfl, (by rw [show oneB u g n0 (deepF g n0 one) sp = emF v9 (nuF g n0 sp k).2 from ((if_neg (fun h9 => h9.elim c1 c2)).trans (if_pos c3)).trans (by rw [hN, ← hv])])⟩
              · refine z_bipush hz 10 dX10_one_150 kb_10 ?_
                refine z_iload_n hz dX10_one_152 2 rfl rfl ?_
                refine z_imul hz dX10_one_153 ?_
                refine z_aload_n hz dX10_one_154 0 rfl rfl ?_
                refine z_callRD (st2 := [.int (hereF g n0 ((nuF g n0 sp k).2)), .int (10 * v9)]) hz zKp.mt (zk_V hz (rm := (zRm 0 0 0 0)) (As := []) (rest := [.int (10 * v9)]) 0 q2178 q2180 qs53 q95 q2181 (by decide +kernel) ⟨by dsimp only [zRm]; omega, by dsimp only [zRm]; omega⟩ ⟨Nat.le_of_ble_eq_true rfl, Nat.le_of_ble_eq_true rfl⟩ (zRecv (q := (RX10, TX10, 29)) hz (zAt.mt 0 0 rfl rfl) rfl) rfl rfl (Nat.le_of_ble_eq_true rfl) dX10_one_155) (mM_here ad iv g n0 u d ((nuF g n0 sp k).2) hn6 hn50 hu hnb.2.1) (fun H9 L9 h9 => (zPc (zAt.mt 0 0 rfl rfl) h9 (zPc (zAt.mt 1 0 rfl rfl) h9 zP0))) rfl ?_
                refine z_iadd hz dX10_one_158 ?_
                refine z_bipush hz 48 dX10_one_159 kb_48 ?_
                refine z_isub hz dX10_one_161 ?_
                refine z_istore_n (lv' := [(0, .ref (ad 99)), (1, .int (hereF g n0 sp)), (2, .int (((10 * v9) + (hereF g n0 ((nuF g n0 sp k).2))) - 48)), (3, .int (nI k))]) hz [1, 2, 0, 3] dX10_one_162 rfl (by decide) rfl ?_
                refine z_aload_n hz dX10_one_163 0 rfl rfl ?_
                refine z_dup hz dX10_one_164 rfl ?_
                refine z_get (C := RX10) (T := TX10) (N := 29) hz in_X10 (zAt.mt 0 0 rfl rfl) rfl 6 (by decide) q1935 (fun _ h9 => h9) rfl dX10_one_165 ?_
                refine z_iconst hz 1 dX10_one_168 ki_1 ?_
                refine z_iaddN hz rfl kn_1 dX10_one_169 ?_
                refine z_put (C := RX10) (T := TX10) (N := 29) hz in_X10 tyX10 tyX10_ok nmX10 0 0 rfl rfl rfl 6 (by decide) q1935 (fun _ h9 => h9) rfl rfl rfl (Nat.le_of_ble_eq_true rfl) dX10_one_170 ?_
                refine z_bs (bs2 := [zO (ad 99) 10 (mFs ad (upd (upd (upd (upd (upd iv 8 (nI u)) 7 (nI d)) 9 (zB (((nuF g n0 sp k).2).2.1 = true))) 11 (nI (((nuF g n0 sp k).2).2.2.2))) 6 (nI ((((nuF g n0 sp k).2).1) + 1)))), zI (G.2.2.1 0) (ad 0) 602 g, zI (G.2.2.1 0) (ad 10) 60 (((nuF g n0 sp k).2).2.2.1), zQr (G.2.2.1 6) (ad 5) 4 (nmdF G)]) rfl ?_
                have hst : (nuF g n0 sp (k + 1)).2 = advF (nuF g n0 sp k).2 := congrArg Prod.snd (if_pos c9)
                refine z_bs (bs2 := [zO (ad 99) 10 (mFs ad (upd (upd (upd (upd (upd iv 8 (nI u)) 7 (nI d)) 6 (nI ((advF (nuF g n0 sp k).2).1))) 9 (zB ((advF (nuF g n0 sp k).2).2.1 = true))) 11 (nI ((advF (nuF g n0 sp k).2).2.2.2)))), zI (G.2.2.1 0) (ad 0) 602 g, zI (G.2.2.1 0) (ad 10) 60 ((advF (nuF g n0 sp k).2).2.2.1), zQr (G.2.2.1 6) (ad 5) 4 (nmdF G)]) rfl ?_
                refine z_bs (bs2 := [zO (ad 99) 10 (mFs ad (upd (upd (upd (upd (upd iv 8 (nI u)) 7 (nI d)) 6 (nI (((nuF g n0 sp (k + 1)).2).1))) 9 (zB (((nuF g n0 sp (k + 1)).2).2.1 = true))) 11 (nI (((nuF g n0 sp (k + 1)).2).2.2.2)))), zI (G.2.2.1 0) (ad 0) 602 g, zI (G.2.2.1 0) (ad 10) 60 (((nuF g n0 sp (k + 1)).2).2.2.1), zQr (G.2.2.1 6) (ad 5) 4 (nmdF G)]) (by rw [hst]) ?_
                refine z_iinc (lv' := [(0, .ref (ad 99)), (1, .int (hereF g n0 sp)), (2, .int (((10 * v9) + (hereF g n0 ((nuF g n0 sp k).2))) - 48)), (3, .int (nI (k + 1)))]) hz (nI (k + 1)) 3 [1, 2, 3, 0] dX10_one_173 rfl (nI_1 _) (by decide) rfl ?_
                refine z_goto hz 131 dX10_one_176 (by decide) ?_
                exact ih_131 (k + 1) (((10 * v9) + (hereF g n0 ((nuF g n0 sp k).2))) - 48) (by omega) (by simp only [nuF]; rw [if_pos c9, ← hv]) (by omega)
        exact lp_131 ((4 - 0) + 1) 0 0 (Nat.zero_le _) rfl (Nat.lt_succ_self _)
    · refine z_aload_n hz dX10_one_17 0 rfl rfl ?_
      refine z_aload_n hz dX10_one_18 0 rfl rfl ?_
      refine z_get (C := RX10) (T := TX10) (N := 29) hz in_X10 (zAt.mt 0 0 rfl rfl) rfl 7 (by decide) q1936 (fun _ h9 => h9) rfl dX10_one_19 ?_
      refine z_iconst hz 5 dX10_one_22 ki_5 ?_
      refine z_icmpN_neT hz rfl kn_5 (by omega) (by decide) 30 dX10_one_23 (by decide) (by omega) ?_
      refine z_iconst hz 0 dX10_one_30 ki_0 ?_
      refine z_put (C := RX10) (T := TX10) (N := 29) hz in_X10 tyX10 tyX10_ok nmX10 0 0 rfl rfl rfl 9 (by decide) q1938 (fun _ h9 => h9) rfl (by decide) (by decide) (Nat.le_of_ble_eq_true rfl) dX10_one_31 ?_
      refine z_bs (bs2 := [zO (ad 99) 10 (mFs ad (upd (upd (upd (upd (upd iv 8 (nI u)) 7 (nI d)) 6 (nI sp.1)) 11 (nI sp.2.2.2)) 9 0)), zI (G.2.2.1 0) (ad 0) 602 g, zI (G.2.2.1 0) (ad 10) 60 sp.2.2.1, zQr (G.2.2.1 6) (ad 5) 4 (nmdF G)]) rfl ?_
      refine z_aload_n hz dX10_one_34 0 rfl rfl ?_
      refine z_get (v := .int 0) (C := RX10) (T := TX10) (N := 29) hz in_X10 (zAt.mt 0 0 rfl rfl) rfl 9 (by decide) q1938 (fun _ h9 => h9) rfl dX10_one_35 ?_
      refine z_if_neF hz 247 dX10_one_38 (by decide) (by decide) ?_
      refine z_aload_n hz dX10_one_41 0 rfl rfl ?_
      refine z_dup hz dX10_one_42 rfl ?_
      refine z_get (C := RX10) (T := TX10) (N := 29) hz in_X10 (zAt.mt 0 0 rfl rfl) rfl 7 (by decide) q1936 (fun _ h9 => h9) rfl dX10_one_43 ?_
      refine z_iconst hz 1 dX10_one_46 ki_1 ?_
      refine z_iaddN hz rfl kn_1 dX10_one_47 ?_
      refine z_put (C := RX10) (T := TX10) (N := 29) hz in_X10 tyX10 tyX10_ok nmX10 0 0 rfl rfl rfl 7 (by decide) q1936 (fun _ h9 => h9) rfl rfl rfl (Nat.le_of_ble_eq_true rfl) dX10_one_48 ?_
      refine z_bs (bs2 := [zO (ad 99) 10 (mFs ad (upd (upd (upd (upd (upd iv 8 (nI u)) 6 (nI sp.1)) 11 (nI sp.2.2.2)) 9 0) 7 (nI (d + 1)))), zI (G.2.2.1 0) (ad 0) 602 g, zI (G.2.2.1 0) (ad 10) 60 sp.2.2.1, zQr (G.2.2.1 6) (ad 5) 4 (nmdF G)]) rfl ?_
      refine z_aload_n hz dX10_one_51 0 rfl rfl ?_
      refine z_dup hz dX10_one_52 rfl ?_
      refine z_get (C := RX10) (T := TX10) (N := 29) hz in_X10 (zAt.mt 0 0 rfl rfl) rfl 6 (by decide) q1935 (fun _ h9 => h9) rfl dX10_one_53 ?_
      refine z_iconst hz 1 dX10_one_56 ki_1 ?_
      refine z_iaddN hz rfl kn_1 dX10_one_57 ?_
      refine z_put (C := RX10) (T := TX10) (N := 29) hz in_X10 tyX10 tyX10_ok nmX10 0 0 rfl rfl rfl 6 (by decide) q1935 (fun _ h9 => h9) rfl rfl rfl (Nat.le_of_ble_eq_true rfl) dX10_one_58 ?_
      refine z_bs (bs2 := [zO (ad 99) 10 (mFs ad (upd (upd (upd (upd (upd iv 8 (nI u)) 11 (nI sp.2.2.2)) 9 0) 7 (nI (d + 1))) 6 (nI (sp.1 + 1)))), zI (G.2.2.1 0) (ad 0) 602 g, zI (G.2.2.1 0) (ad 10) 60 sp.2.2.1, zQr (G.2.2.1 6) (ad 5) 4 (nmdF G)]) rfl ?_
      refine z_iload_n hz dX10_one_61 1 rfl rfl ?_
      refine z_bipush hz 33 dX10_one_62 kb_33 ?_
      refine z_icmp_neT hz 81 dX10_one_64 (by decide) c1 ?_
      refine z_aload_n hz dX10_one_81 0 rfl rfl ?_
      have hl := (here_lt (g := g) (n := n0) (s := sp) (by rw [c2]; decide)).2
      refine z_bs (bs2 := [zO (ad 99) 10 (mFs ad (upd (upd (upd (upd (upd iv 8 (nI u)) 7 (nI (d + 1))) 6 (nI ((sp.1 + 1, false, sp.2.2).1))) 9 (zB ((sp.1 + 1, false, sp.2.2).2.1 = true))) 11 (nI ((sp.1 + 1, false, sp.2.2).2.2.2)))), zI (G.2.2.1 0) (ad 0) 602 g, zI (G.2.2.1 0) (ad 10) 60 ((sp.1 + 1, false, sp.2.2).2.2.1), zQr (G.2.2.1 6) (ad 5) 4 (nmdF G)]) rfl ?_
      refine z_callD (bs2 := [zO (ad 99) 10 (mFs ad (upd (upd (upd (upd (upd iv 8 (nI u)) 7 (nI (d + 1))) 6 (nI ((eithF g n0 one (sp.1 + 1, false, sp.2.2)).1))) 9 (zB ((eithF g n0 one (sp.1 + 1, false, sp.2.2)).2.1 = true))) 11 (nI ((eithF g n0 one (sp.1 + 1, false, sp.2.2)).2.2.2)))), zI (G.2.2.1 0) (ad 0) 602 g, zI (G.2.2.1 0) (ad 10) 60 ((eithF g n0 one (sp.1 + 1, false, sp.2.2)).2.2.1), zQr (G.2.2.1 6) (ad 5) 4 (nmdF G)]) (st2 := []) hz hA (zk_V hz (rm := (zRm f9 0 0 lo9)) (As := []) (rest := []) 0 q2154 q2156 qs47 q95 q2157 (by decide +kernel) ⟨by dsimp only [zRm]; omega, by dsimp only [zRm]; omega⟩ ⟨Nat.le_of_ble_eq_true rfl, Nat.le_of_ble_eq_true rfl⟩ (zRecv (q := (RX10, TX10, 29)) hz (zAt.mt 0 0 rfl rfl) rfl) rfl rfl (Nat.le_of_ble_eq_true rfl) dX10_one_82) (heith (sp.1 + 1, false, sp.2.2) hl (show sp.2.2.2 ≤ sp.1 + 1 by omega)) [0, 1, 2, 3] rfl (by decide) rfl rfl ?_
      have hq := gd_eith (g := g) hgd (sp.1 + 1, false, sp.2.2) hl (show sp.2.2.2 ≤ sp.1 + 1 by omega)
      generalize hQE : (eithF g n0 one (sp.1 + 1, false, sp.2.2)) = q9 at hq ⊢
      have hq1 : sp.1 + 1 ≤ q9.1 := hq.1
      have hq2 := hq.2.1
      have hq3 : q9.2.2.2 + (sp.1 + 1) ≤ sp.2.2.2 + q9.1 := hq.2.2
      refine z_aload_n hz dX10_one_85 0 rfl rfl ?_
      refine z_aload_n hz dX10_one_86 0 rfl rfl ?_
      refine z_bipush hz 41 dX10_one_87 kb_41 ?_
      refine z_callD (bs2 := [zO (ad 99) 10 (mFs ad (upd (upd (upd (upd (upd iv 8 (nI u)) 7 (nI (d + 1))) 6 (nI ((tkF g n0 41 q9).1))) 9 (zB ((tkF g n0 41 q9).2.1 = true))) 11 (nI ((tkF g n0 41 q9).2.2.2)))), zI (G.2.2.1 0) (ad 0) 602 g, zI (G.2.2.1 0) (ad 10) 60 q9.2.2.1, zQr (G.2.2.1 6) (ad 5) 4 (nmdF G)]) (st2 := [.int (zB (hereF g n0 q9 = 41)), .ref (ad 99)]) hz hA (zk_V hz (rm := (zRm 1 0 0 30)) (As := [.int 41]) (rest := [.ref (ad 99)]) 1 q2186 q2188 qs55 q95 q2189 (by decide +kernel) ⟨by dsimp only [zRm]; omega, by dsimp only [zRm]; omega⟩ ⟨Nat.le_of_ble_eq_true rfl, Nat.le_of_ble_eq_true rfl⟩ (zRecv (q := (RX10, TX10, 29)) hz (zAt.mt 0 0 rfl rfl) rfl) rfl rfl (Nat.le_of_ble_eq_true rfl) dX10_one_89) (mM_takes ad iv g n0 u (d + 1) q9 hn6 hn50 hu hq2 41) [0, 1] rfl (by decide) rfl rfl ?_
      refine z_ifB_ne hz 99 dX10_one_92 (by decide) (fun c10 => ?_) (fun c10 => ?_)
      · rw [show tkF g n0 41 q9 = advF q9 from if_pos c10]
        refine z_bs (bs2 := [zO (ad 99) 10 (mFs ad (upd (upd (upd (upd (upd iv 8 (nI u)) 7 (nI (d + 1))) 6 (nI ((advF q9).1))) 9 (zB ((advF q9).2.1 = true))) 11 (nI ((advF q9).2.2.2)))), zI (G.2.2.1 0) (ad 0) 602 g, zI (G.2.2.1 0) (ad 10) 60 ((advF q9).2.2.1), zQr (G.2.2.1 6) (ad 5) 4 (nmdF G)]) rfl ?_
        refine z_iconst hz 0 dX10_one_99 ki_0 ?_
        refine z_put (C := RX10) (T := TX10) (N := 29) hz in_X10 tyX10 tyX10_ok nmX10 0 0 rfl rfl rfl 9 (by decide) q1938 (fun _ h9 => h9) rfl (by decide) (by decide) (Nat.le_of_ble_eq_true rfl) dX10_one_100 ?_
        refine z_bs (bs2 := [zO (ad 99) 10 (mFs ad (upd (upd (upd (upd (upd iv 8 (nI u)) 7 (nI (d + 1))) 6 (nI ((advF q9).1))) 11 (nI ((advF q9).2.2.2))) 9 0)), zI (G.2.2.1 0) (ad 0) 602 g, zI (G.2.2.1 0) (ad 10) 60 ((advF q9).2.2.1), zQr (G.2.2.1 6) (ad 5) 4 (nmdF G)]) rfl ?_
        refine z_aload_n hz dX10_one_103 0 rfl rfl ?_
        refine z_dup hz dX10_one_104 rfl ?_
        refine z_get (C := RX10) (T := TX10) (N := 29) hz in_X10 (zAt.mt 0 0 rfl rfl) rfl 7 (by decide) q1936 (fun _ h9 => h9) rfl dX10_one_105 ?_
        refine z_iconst hz 1 dX10_one_108 ki_1 ?_
        refine z_isubN hz rfl kn_1 (by omega) dX10_one_109 ?_
        refine z_put (C := RX10) (T := TX10) (N := 29) hz in_X10 tyX10 tyX10_ok nmX10 0 0 rfl rfl rfl 7 (by decide) q1936 (fun _ h9 => h9) rfl rfl rfl (Nat.le_of_ble_eq_true rfl) dX10_one_110 ?_
        refine z_bs (bs2 := [zO (ad 99) 10 (mFs ad (upd (upd (upd (upd (upd iv 8 (nI u)) 6 (nI ((advF q9).1))) 11 (nI ((advF q9).2.2.2))) 9 0) 7 (nI ((d + 1) - 1)))), zI (G.2.2.1 0) (ad 0) 602 g, zI (G.2.2.1 0) (ad 10) 60 ((advF q9).2.2.1), zQr (G.2.2.1 6) (ad 5) 4 (nmdF G)]) rfl ?_
        refine z_bs (bs2 := [zO (ad 99) 10 (mFs ad (upd (upd (upd (upd (upd iv 8 (nI u)) 7 (nI d)) 6 (nI ((q9.1 + 1, false, q9.2.2).1))) 9 (zB ((q9.1 + 1, false, q9.2.2).2.1 = true))) 11 (nI ((q9.1 + 1, false, q9.2.2).2.2.2)))), zI (G.2.2.1 0) (ad 0) 602 g, zI (G.2.2.1 0) (ad 10) 60 ((q9.1 + 1, false, q9.2.2).2.2.1), zQr (G.2.2.1 6) (ad 5) 4 (nmdF G)]) rfl ?_
        refine z_goto hz 247 dX10_one_113 (by decide) ?_
        exact z_vret hQ hz hr hlk dX10_one_247 ⟨rfl, (by rw [show oneB u g n0 (deepF g n0 one) sp = (q9.1 + 1, false, q9.2.2) from (if_pos (Or.inr c2)).trans (show deepF g n0 one sp = (q9.1 + 1, false, q9.2.2) from by unfold deepF; rw [if_neg c1, hQE, if_pos c10])])⟩
      · rw [show tkF g n0 41 q9 = q9 from if_neg c10]
        refine z_bs (bs2 := [zO (ad 99) 10 (mFs ad (upd (upd (upd (upd (upd iv 8 (nI u)) 7 (nI (d + 1))) 6 (nI q9.1)) 9 (zB (q9.2.1 = true))) 11 (nI q9.2.2.2))), zI (G.2.2.1 0) (ad 0) 602 g, zI (G.2.2.1 0) (ad 10) 60 q9.2.2.1, zQr (G.2.2.1 6) (ad 5) 4 (nmdF G)]) rfl ?_
        refine z_iconst hz 1 dX10_one_95 ki_1 ?_
        refine z_goto hz 100 dX10_one_96 (by decide) ?_
        refine z_put (C := RX10) (T := TX10) (N := 29) hz in_X10 tyX10 tyX10_ok nmX10 0 0 rfl rfl rfl 9 (by decide) q1938 (fun _ h9 => h9) rfl (by decide) (by decide) (Nat.le_of_ble_eq_true rfl) dX10_one_100 ?_
        refine z_bs (bs2 := [zO (ad 99) 10 (mFs ad (upd (upd (upd (upd (upd iv 8 (nI u)) 7 (nI (d + 1))) 6 (nI q9.1)) 11 (nI q9.2.2.2)) 9 1)), zI (G.2.2.1 0) (ad 0) 602 g, zI (G.2.2.1 0) (ad 10) 60 q9.2.2.1, zQr (G.2.2.1 6) (ad 5) 4 (nmdF G)]) rfl ?_
        refine z_aload_n hz dX10_one_103 0 rfl rfl ?_
        refine z_dup hz dX10_one_104 rfl ?_
        refine z_get (C := RX10) (T := TX10) (N := 29) hz in_X10 (zAt.mt 0 0 rfl rfl) rfl 7 (by decide) q1936 (fun _ h9 => h9) rfl dX10_one_105 ?_
        refine z_iconst hz 1 dX10_one_108 ki_1 ?_
        refine z_isubN hz rfl kn_1 (by omega) dX10_one_109 ?_
        refine z_put (C := RX10) (T := TX10) (N := 29) hz in_X10 tyX10 tyX10_ok nmX10 0 0 rfl rfl rfl 7 (by decide) q1936 (fun _ h9 => h9) rfl rfl rfl (Nat.le_of_ble_eq_true rfl) dX10_one_110 ?_
        refine z_bs (bs2 := [zO (ad 99) 10 (mFs ad (upd (upd (upd (upd (upd iv 8 (nI u)) 6 (nI q9.1)) 11 (nI q9.2.2.2)) 9 1) 7 (nI ((d + 1) - 1)))), zI (G.2.2.1 0) (ad 0) 602 g, zI (G.2.2.1 0) (ad 10) 60 q9.2.2.1, zQr (G.2.2.1 6) (ad 5) 4 (nmdF G)]) rfl ?_
        refine z_bs (bs2 := [zO (ad 99) 10 (mFs ad (upd (upd (upd (upd (upd iv 8 (nI u)) 7 (nI d)) 6 (nI ((wrgF q9).1))) 9 (zB ((wrgF q9).2.1 = true))) 11 (nI ((wrgF q9).2.2.2)))), zI (G.2.2.1 0) (ad 0) 602 g, zI (G.2.2.1 0) (ad 10) 60 ((wrgF q9).2.2.1), zQr (G.2.2.1 6) (ad 5) 4 (nmdF G)]) rfl ?_
        refine z_goto hz 247 dX10_one_113 (by decide) ?_
        exact z_vret hQ hz hr hlk dX10_one_247 ⟨rfl, (by rw [show oneB u g n0 (deepF g n0 one) sp = wrgF q9 from (if_pos (Or.inr c2)).trans (show deepF g n0 one sp = wrgF q9 from by unfold deepF; rw [if_neg c1, hQE, if_neg c10])])⟩
