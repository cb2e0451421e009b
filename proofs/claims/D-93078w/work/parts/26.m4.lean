set_option maxRecDepth 100000
set_option maxHeartbeats 400000 in
theorem mM_findWho {G : zG} (ad : Nat → Nat) (iv g : Nat → Int32) (wh : Nat → Int32) (room : Int32) (nm : Nat) (hnm : g 1 = nI nm) (h16 : nm ≤ 16) : zMet G yX10_findWho (ws_ yX10_findWho cX10_findWho 3 none) (zRm 1 0 0 30) [.ref (ad 99), .int room] [zO (ad 99) 10 (mFs ad iv), zI (G.2.2.1 0) (ad 0) 602 g, zI (G.2.2.1 0) (ad 13) 10 wh] (fun v9 b9 => v9 = none ∧ b9 = [zO (ad 99) 10 (mFs ad (upd iv 14 (nI ((whoF g room wh nm).2)))), zI (G.2.2.1 0) (ad 0) 602 g, zI (G.2.2.1 0) (ad 13) 10 ((whoF g room wh nm).1)]) := by
  refine zMet.of (by decide +kernel) (Nat.le_of_ble_eq_true rfl) ?_
  intro p e s m args below meth c A hz hA hr hlk hnm9 Q hQ
  refine z_lv (lv' := [(0, .ref (ad 99)), (1, .int room)]) [0, 1] rfl ?_
  refine z_aload_n hz dX10_findWho_0 0 rfl rfl ?_
  refine z_iconst hz 0 dX10_findWho_1 ki_0 ?_
  refine z_put (C := RX10) (T := TX10) (N := 29) hz in_X10 tyX10 tyX10_ok nmX10 0 0 rfl rfl rfl 14 (by decide) q1943 (fun _ h9 => h9) rfl rfl rfl (Nat.le_of_ble_eq_true rfl) dX10_findWho_2 ?_
  refine z_bs (bs2 := [zO (ad 99) 10 (mFs ad (upd iv 14 0)), zI (G.2.2.1 0) (ad 0) 602 g, zI (G.2.2.1 0) (ad 13) 10 wh]) rfl ?_
  refine z_iconst hz 0 dX10_findWho_5 ki_0 ?_
  refine z_istore_n (lv' := [(0, .ref (ad 99)), (1, .int room), (2, .int 0)]) hz [1, 2, 0] dX10_findWho_6 rfl (by decide) rfl ?_
  have lp_7 : ∀ (n9 : Nat) (mi : Nat) (wf : Nat → Int32) (wc : Nat), mi ≤ nm → wf = (whoF g room wh mi).1 → wc = (whoF g room wh mi).2 → nm - mi < n9 → zW p G.1 e (zRm 1 0 0 30) s m args below meth c 3 Q 0 0 (zΦ G A s [zO (ad 99) 10 (mFs ad (upd iv 14 (nI wc))), zI (G.2.2.1 0) (ad 0) 602 g, zI (G.2.2.1 0) (ad 13) 10 wf]) 7 [(0, .ref (ad 99)), (1, .int room), (2, .int (nI mi))] [] := by
    intro n9
    induction n9 with
    | zero => intro _ _ _ _ _ _ hm; exact absurd hm (Nat.not_lt_zero _)
    | succ n9 ih_7 =>
      intro mi wf wc hm hw1 hw2 hm_7
      have hwc : wc ≤ 10 := by rw [hw2]; exact whoF_10 mi
      refine z_iload_n hz dX10_findWho_7 2 rfl rfl ?_
      refine z_aload_n hz dX10_findWho_8 0 rfl rfl ?_
      refine z_get (C := RX10) (T := TX10) (N := 29) hz in_X10 (zAt.mt 0 0 rfl rfl) rfl 0 (by decide) q1929 (fun _ h9 => h9) rfl dX10_findWho_9 ?_
      refine z_iconst hz 1 dX10_findWho_12 ki_1 ?_
      refine z_iald hz (zAt.mt 1 0 rfl rfl) kn_1 (by decide) (by decide) dX10_findWho_13 ?_
      refine z_top hnm ?_
      refine z_icmpN_ge hz rfl rfl (by omega) (by omega) 62 dX10_findWho_14 (by decide) (fun c1 => ?_) (fun c1 => ?_)
      · have hWE : whoF g room wh nm = whoF g room wh mi := by rw [show nm = mi by omega]
        exact z_vret hQ hz hr hlk dX10_findWho_62 ⟨rfl, by rw [hWE, ← hw1, ← hw2]⟩
      · refine z_aload_n hz dX10_findWho_17 0 rfl rfl ?_
        refine z_get (C := RX10) (T := TX10) (N := 29) hz in_X10 (zAt.mt 0 0 rfl rfl) rfl 14 (by decide) q1943 (fun _ h9 => h9) rfl dX10_findWho_18 ?_
        refine z_bipush hz 10 dX10_findWho_21 kb_10 ?_
        refine z_icmpN_ge hz rfl kn_10 (by omega) (by decide) 62 dX10_findWho_23 (by decide) (fun c2 => ?_) (fun c2 => ?_)
        · have hWE : whoF g room wh nm = whoF g room wh mi := by rw [show nm = mi + (nm - mi) by omega]; exact whoF_full (by rw [← hw2]; exact c2) _
          exact z_vret hQ hz hr hlk dX10_findWho_62 ⟨rfl, by rw [hWE, ← hw1, ← hw2]⟩
        · refine z_aload_n hz dX10_findWho_26 0 rfl rfl ?_
          refine z_iload_n hz dX10_findWho_27 2 rfl rfl ?_
          refine z_iconst hz 0 dX10_findWho_28 ki_0 ?_
          refine z_callRD (st2 := [.int (g (36 + 5 * mi))]) hz zKp.mt (zk_V hz (rm := (zRm 0 0 0 0)) (As := [.int (nI mi), .int 0]) (rest := []) 2 q2057 q2059 qs38 q95 q2060 (by decide +kernel) ⟨Nat.le_of_ble_eq_true rfl, Nat.le_of_ble_eq_true rfl⟩ ⟨Nat.le_of_ble_eq_true rfl, Nat.le_of_ble_eq_true rfl⟩ (zRecv (q := (RX10, TX10, 29)) hz (zAt.mt 0 0 rfl rfl) rfl) rfl rfl (Nat.le_of_ble_eq_true rfl) dX10_findWho_29) (mM_man2 ad (upd iv 14 (nI wc)) g mi 0 (by omega)) (fun H9 L9 h9 => (zPc (zAt.mt 0 0 rfl rfl) h9 (zPc (zAt.mt 1 0 rfl rfl) h9 zP0))) rfl ?_
          refine z_iload_n hz dX10_findWho_32 1 rfl rfl ?_
          refine z_icmp_ne hz 56 dX10_findWho_33 (by decide) (fun c3 => ?_) (fun c3 => ?_)
          · refine z_iinc (lv' := [(0, .ref (ad 99)), (1, .int room), (2, .int (nI (mi + 1)))]) hz (nI (mi + 1)) 2 [1, 2, 0] dX10_findWho_56 rfl (nI_1 _) (by decide) rfl ?_
            refine z_goto hz 7 dX10_findWho_59 (by decide) ?_
            exact ih_7 (mi + 1) wf wc (by omega) (by simp only [whoF]; rw [← hw2, if_neg (fun h9 => c3 h9.2), ← hw1]) (by simp only [whoF]; rw [← hw2, if_neg (fun h9 => c3 h9.2), ← hw2]) (by omega)
          · refine z_aload_n hz dX10_findWho_36 0 rfl rfl ?_
            refine z_get (C := RX10) (T := TX10) (N := 29) hz in_X10 (zAt.mt 0 0 rfl rfl) rfl 13 (by decide) q1942 (fun _ h9 => h9) rfl dX10_findWho_37 ?_
            refine z_aload_n hz dX10_findWho_40 0 rfl rfl ?_
            refine z_get (C := RX10) (T := TX10) (N := 29) hz in_X10 (zAt.mt 0 0 rfl rfl) rfl 14 (by decide) q1943 (fun _ h9 => h9) rfl dX10_findWho_41 ?_
            refine z_iload_n hz dX10_findWho_44 2 rfl rfl ?_
            refine z_iast hz 2 0 rfl rfl rfl (by omega) (by decide) dX10_findWho_45 ?_
            refine z_bs (bs2 := [zO (ad 99) 10 (mFs ad (upd iv 14 (nI wc))), zI (G.2.2.1 0) (ad 0) 602 g, zI (G.2.2.1 0) (ad 13) 10 (upd wf wc (nI mi))]) rfl ?_
            refine z_aload_n hz dX10_findWho_46 0 rfl rfl ?_
            refine z_dup hz dX10_findWho_47 rfl ?_
            refine z_get (C := RX10) (T := TX10) (N := 29) hz in_X10 (zAt.mt 0 0 rfl rfl) rfl 14 (by decide) q1943 (fun _ h9 => h9) rfl dX10_findWho_48 ?_
            refine z_iconst hz 1 dX10_findWho_51 ki_1 ?_
            refine z_iaddN hz rfl kn_1 dX10_findWho_52 ?_
            refine z_put (C := RX10) (T := TX10) (N := 29) hz in_X10 tyX10 tyX10_ok nmX10 0 0 rfl rfl rfl 14 (by decide) q1943 (fun _ h9 => h9) rfl rfl rfl (Nat.le_of_ble_eq_true rfl) dX10_findWho_53 ?_
            refine z_bs (bs2 := [zO (ad 99) 10 (mFs ad (upd iv 14 (nI (wc + 1)))), zI (G.2.2.1 0) (ad 0) 602 g, zI (G.2.2.1 0) (ad 13) 10 (upd wf wc (nI mi))]) rfl ?_
            refine z_iinc (lv' := [(0, .ref (ad 99)), (1, .int room), (2, .int (nI (mi + 1)))]) hz (nI (mi + 1)) 2 [1, 2, 0] dX10_findWho_56 rfl (nI_1 _) (by decide) rfl ?_
            refine z_goto hz 7 dX10_findWho_59 (by decide) ?_
            exact ih_7 (mi + 1) (upd wf wc (nI mi)) (wc + 1) (by omega) (by simp only [whoF]; rw [← hw1, ← hw2, if_pos ⟨c2, c3⟩]) (by simp only [whoF]; rw [← hw1, ← hw2, if_pos ⟨c2, c3⟩]) (by omega)
  exact lp_7 ((nm - 0) + 1) 0 wh 0 (Nat.zero_le _) rfl rfl (Nat.lt_succ_self _)
set_option maxHeartbeats 400000 in
theorem mM_canGo {G : zG} (ad : Nat → Nat) (iv g : Nat → Int32) (W : Nat → Int32) (a b ma mb : Nat) (turn t : Int32) (ha : a < 10) (hb : b < 10) (hma : W a = nI ma) (hmb : W b = nI mb) (h16a : ma < 16) (h16b : mb < 16) : zRd G yX10_canGo (ws_ yX10_canGo cX10_canGo 6 (some .boolean)) (zRm 1 0 0 30) [.ref (ad 99), .int (nI a), .int (nI b), .int turn, .int t] [(ad 99, .inr (10, mFs ad iv)), (ad 0, .inl (G.2.2.1 0, 602, .inl g)), (ad 13, .inl (G.2.2.1 0, 10, .inl W))] (fun v9 => v9 = some (.int (canP g W a b turn t))) := by
  refine zRd.of (by decide +kernel) (Nat.le_of_ble_eq_true rfl) ?_
  intro p e s m args below meth c hz hP hr hlk Q hQ
  refine z_lv (lv' := [(0, .ref (ad 99)), (1, .int (nI a)), (2, .int (nI b)), (3, .int turn), (4, .int t)]) [0, 1, 2, 3, 4] rfl ?_
  have tma : tN (nI ma) = ma := nI_clamp (by omega)
  have tmb : tN (nI mb) = mb := nI_clamp (by omega)
  refine z_aload_n hz dX10_canGo_0 0 rfl rfl ?_
  refine z_get (C := RX10) (T := TX10) (N := 29) hz in_X10 (zAt.rd hP 0 rfl) rfl 0 (by decide) q1929 (fun _ h9 => h9) rfl dX10_canGo_1 ?_
  refine z_iconst hz 0 dX10_canGo_4 ki_0 ?_
  refine z_iald hz (zAt.rd hP 1 rfl) kn_0 (by decide) (by decide) dX10_canGo_5 ?_
  refine z_iload_n hz dX10_canGo_6 3 rfl rfl ?_
  refine z_iload hz dX10_canGo_7 4 rfl ?_
  refine z_imul hz dX10_canGo_9 ?_
  refine z_iadd hz dX10_canGo_10 ?_
  refine z_istore (lv' := [(0, .ref (ad 99)), (1, .int (nI a)), (2, .int (nI b)), (3, .int turn), (4, .int t), (5, .int ((g 0) + (turn * t)))]) hz [1, 2, 3, 4, 5, 0] dX10_canGo_11 (by decide) rfl ?_
  refine z_aload_n hz dX10_canGo_13 0 rfl rfl ?_
  refine z_aload_n hz dX10_canGo_14 0 rfl rfl ?_
  refine z_get (C := RX10) (T := TX10) (N := 29) hz in_X10 (zAt.rd hP 0 rfl) rfl 13 (by decide) q1942 (fun _ h9 => h9) rfl dX10_canGo_15 ?_
  refine z_iload_n hz dX10_canGo_18 1 rfl rfl ?_
  refine z_iald hz (zAt.rd hP 2 rfl) rfl (by omega) (by decide) dX10_canGo_19 ?_
  refine z_top hma ?_
  refine z_iconst hz 4 dX10_canGo_20 ki_4 ?_
  refine z_callRD (st2 := [.int (g (36 + 5 * ma + 4))]) hz zKp.rd (zk_V hz (rm := (zRm 0 0 0 0)) (As := [.int (nI ma), .int 4]) (rest := []) 2 q2057 q2059 qs38 q95 q2060 (by decide +kernel) ⟨Nat.le_of_ble_eq_true rfl, Nat.le_of_ble_eq_true rfl⟩ ⟨Nat.le_of_ble_eq_true rfl, Nat.le_of_ble_eq_true rfl⟩ (zRecv (q := (RX10, TX10, 29)) hz (zAt.rd hP 0 rfl) rfl) rfl rfl (Nat.le_of_ble_eq_true rfl) dX10_canGo_21) (mM_man2 ad iv g ma 4 (by omega)) (fun H9 L9 h9 => (zPc (zAt.rd hP 0 rfl) h9 (zPc (zAt.rd hP 1 rfl) h9 zP0))) rfl ?_
  refine z_iload hz dX10_canGo_24 5 rfl ?_
  refine z_icmp_lt hz 75 dX10_canGo_26 (by decide) (fun c1 => ?_) (fun c1 => ?_)
  · refine z_iconst hz 0 dX10_canGo_75 ki_0 ?_
    exact zr_zret hQ hz hr hlk (by decide) dX10_canGo_76 (by simp [canP, hma, hmb, tma, tmb, Int32.not_le.mpr c1])
  · refine z_aload_n hz dX10_canGo_29 0 rfl rfl ?_
    refine z_aload_n hz dX10_canGo_30 0 rfl rfl ?_
    refine z_get (C := RX10) (T := TX10) (N := 29) hz in_X10 (zAt.rd hP 0 rfl) rfl 13 (by decide) q1942 (fun _ h9 => h9) rfl dX10_canGo_31 ?_
    refine z_iload_n hz dX10_canGo_34 2 rfl rfl ?_
    refine z_iald hz (zAt.rd hP 2 rfl) rfl (by omega) (by decide) dX10_canGo_35 ?_
    refine z_top hmb ?_
    refine z_iconst hz 4 dX10_canGo_36 ki_4 ?_
    refine z_callRD (st2 := [.int (g (36 + 5 * mb + 4))]) hz zKp.rd (zk_V hz (rm := (zRm 0 0 0 0)) (As := [.int (nI mb), .int 4]) (rest := []) 2 q2057 q2059 qs38 q95 q2060 (by decide +kernel) ⟨Nat.le_of_ble_eq_true rfl, Nat.le_of_ble_eq_true rfl⟩ ⟨Nat.le_of_ble_eq_true rfl, Nat.le_of_ble_eq_true rfl⟩ (zRecv (q := (RX10, TX10, 29)) hz (zAt.rd hP 0 rfl) rfl) rfl rfl (Nat.le_of_ble_eq_true rfl) dX10_canGo_37) (mM_man2 ad iv g mb 4 (by omega)) (fun H9 L9 h9 => (zPc (zAt.rd hP 0 rfl) h9 (zPc (zAt.rd hP 1 rfl) h9 zP0))) rfl ?_
    refine z_iload hz dX10_canGo_40 5 rfl ?_
    refine z_icmp_lt hz 75 dX10_canGo_42 (by decide) (fun c2 => ?_) (fun c2 => ?_)
    · refine z_iconst hz 0 dX10_canGo_75 ki_0 ?_
      exact zr_zret hQ hz hr hlk (by decide) dX10_canGo_76 (by simp [canP, hma, hmb, tma, tmb, Int32.not_lt.mp c1, Int32.not_le.mpr c2])
    · refine z_aload_n hz dX10_canGo_45 0 rfl rfl ?_
      refine z_aload_n hz dX10_canGo_46 0 rfl rfl ?_
      refine z_get (C := RX10) (T := TX10) (N := 29) hz in_X10 (zAt.rd hP 0 rfl) rfl 13 (by decide) q1942 (fun _ h9 => h9) rfl dX10_canGo_47 ?_
      refine z_iload_n hz dX10_canGo_50 1 rfl rfl ?_
      refine z_iald hz (zAt.rd hP 2 rfl) rfl (by omega) (by decide) dX10_canGo_51 ?_
      refine z_top hma ?_
      refine z_iconst hz 3 dX10_canGo_52 ki_3 ?_
      refine z_callRD (st2 := [.int (g (36 + 5 * ma + 3))]) hz zKp.rd (zk_V hz (rm := (zRm 0 0 0 0)) (As := [.int (nI ma), .int 3]) (rest := []) 2 q2057 q2059 qs38 q95 q2060 (by decide +kernel) ⟨Nat.le_of_ble_eq_true rfl, Nat.le_of_ble_eq_true rfl⟩ ⟨Nat.le_of_ble_eq_true rfl, Nat.le_of_ble_eq_true rfl⟩ (zRecv (q := (RX10, TX10, 29)) hz (zAt.rd hP 0 rfl) rfl) rfl rfl (Nat.le_of_ble_eq_true rfl) dX10_canGo_53) (mM_man2 ad iv g ma 3 (by omega)) (fun H9 L9 h9 => (zPc (zAt.rd hP 0 rfl) h9 (zPc (zAt.rd hP 1 rfl) h9 zP0))) rfl ?_
      refine z_aload_n hz dX10_canGo_56 0 rfl rfl ?_
      refine z_aload_n hz dX10_canGo_57 0 rfl rfl ?_
      refine z_get (C := RX10) (T := TX10) (N := 29) hz in_X10 (zAt.rd hP 0 rfl) rfl 13 (by decide) q1942 (fun _ h9 => h9) rfl dX10_canGo_58 ?_
      refine z_iload_n hz dX10_canGo_61 2 rfl rfl ?_
      refine z_iald hz (zAt.rd hP 2 rfl) rfl (by omega) (by decide) dX10_canGo_62 ?_
      refine z_top hmb ?_
      refine z_iconst hz 3 dX10_canGo_63 ki_3 ?_
      refine z_callRD (st2 := [.int (g (36 + 5 * mb + 3)), .int (g (36 + 5 * ma + 3))]) hz zKp.rd (zk_V hz (rm := (zRm 0 0 0 0)) (As := [.int (nI mb), .int 3]) (rest := [.int (g (36 + 5 * ma + 3))]) 2 q2057 q2059 qs38 q95 q2060 (by decide +kernel) ⟨Nat.le_of_ble_eq_true rfl, Nat.le_of_ble_eq_true rfl⟩ ⟨Nat.le_of_ble_eq_true rfl, Nat.le_of_ble_eq_true rfl⟩ (zRecv (q := (RX10, TX10, 29)) hz (zAt.rd hP 0 rfl) rfl) rfl rfl (Nat.le_of_ble_eq_true rfl) dX10_canGo_64) (mM_man2 ad iv g mb 3 (by omega)) (fun H9 L9 h9 => (zPc (zAt.rd hP 0 rfl) h9 (zPc (zAt.rd hP 1 rfl) h9 zP0))) rfl ?_
      refine z_iadd hz dX10_canGo_67 ?_
      refine z_if_le hz 75 dX10_canGo_68 (by decide) (fun c3 => ?_) (fun c3 => ?_)
      · refine z_iconst hz 0 dX10_canGo_75 ki_0 ?_
        exact zr_zret hQ hz hr hlk (by decide) dX10_canGo_76 (by simp [canP, hma, hmb, tma, tmb, Int32.not_lt.mp c1, Int32.not_lt.mp c2, c3])
      · refine z_iconst hz 1 dX10_canGo_71 ki_1 ?_
        refine z_goto hz 76 dX10_canGo_72 (by decide) ?_
        exact zr_zret hQ hz hr hlk (by decide) dX10_canGo_76 (by simp [canP, hma, hmb, tma, tmb, Int32.not_lt.mp c1, Int32.not_lt.mp c2, Int32.not_le.mp c3])
set_option maxHeartbeats 2000000 in
theorem mM_findTurns {G : zG} (ad : Nat → Nat) (iv g : Nat → Int32) (wh tr : Nat → Int32) (room t : Int32) (nm : Nat) (hnm : g 1 = nI nm) (h16 : nm ≤ 16) : zMet G yX10_findTurns (ws_ yX10_findTurns cX10_findTurns 7 none) (zRm 2 0 0 70) [.ref (ad 99), .int room, .int t] [zO (ad 99) 10 (mFs ad iv), zI (G.2.2.1 0) (ad 0) 602 g, zI (G.2.2.1 0) (ad 13) 10 wh, zI (G.2.2.1 0) (ad 15) 1024 tr] (fun v9 b9 => v9 = none ∧ b9 = [zO (ad 99) 10 (mFs ad (upd iv 14 (nI ((whoF g room wh nm).2)))), zI (G.2.2.1 0) (ad 0) 602 g, zI (G.2.2.1 0) (ad 13) 10 ((whoF g room wh nm).1), zI (G.2.2.1 0) (ad 15) 1024 (trS g (whoF g room wh nm).1 t (whoF g room wh nm).2 tr (2 ^ (whoF g room wh nm).2 - 1))]) := by
  refine zMet.of (by decide +kernel) (Nat.le_of_ble_eq_true rfl) ?_
  intro p e s m args below meth c A hz hA hr hlk hnm9 Q hQ
  refine z_lv (lv' := [(0, .ref (ad 99)), (1, .int room), (2, .int t)]) [0, 1, 2] rfl ?_
  refine z_aload_n hz dX10_findTurns_0 0 rfl rfl ?_
  refine z_iload_n hz dX10_findTurns_1 1 rfl rfl ?_
  refine z_callD (bs2 := [zO (ad 99) 10 (mFs ad (upd iv 14 (nI ((whoF g room wh nm).2)))), zI (G.2.2.1 0) (ad 0) 602 g, zI (G.2.2.1 0) (ad 13) 10 ((whoF g room wh nm).1), zI (G.2.2.1 0) (ad 15) 1024 tr]) (st2 := []) hz hA (zk_V hz (rm := (zRm 1 0 0 30)) (As := [.int room]) (rest := []) 1 q2267 q2269 qs62 q95 q2270 (by decide +kernel) ⟨Nat.le_of_ble_eq_true rfl, Nat.le_of_ble_eq_true rfl⟩ ⟨Nat.le_of_ble_eq_true rfl, Nat.le_of_ble_eq_true rfl⟩ (zRecv (q := (RX10, TX10, 29)) hz (zAt.mt 0 0 rfl rfl) rfl) rfl rfl (Nat.le_of_ble_eq_true rfl) dX10_findTurns_2) (mM_findWho ad iv g wh room nm hnm h16) [0, 1, 2] rfl (by decide) rfl rfl ?_
  have h10 := whoF_10 (g := g) (wh := wh) (room := room) nm
  have hWn := whoF_nat (g := g) (wh := wh) (room := room) nm
  generalize hW : (whoF g room wh nm).1 = W at hWn ⊢
  generalize hC : (whoF g room wh nm).2 = wc at hWn h10 ⊢
  obtain ⟨P2, hP2⟩ : ∃ q, q = 2 ^ wc := ⟨_, rfl⟩
  have hp2 := pow_10 h10
  rw [← hP2] at hp2
  refine z_aload_n hz dX10_findTurns_5 0 rfl rfl ?_
  refine z_get (C := RX10) (T := TX10) (N := 29) hz in_X10 (zAt.mt 0 0 rfl rfl) rfl 15 (by decide) q1944 (fun _ h9 => h9) rfl dX10_findTurns_6 ?_
  refine z_iconst hz 0 dX10_findTurns_9 ki_0 ?_
  refine z_iconst hz 0 dX10_findTurns_10 ki_0 ?_
  refine z_iast hz 3 0 rfl rfl kn_0 (by decide) (by decide) dX10_findTurns_11 ?_
  refine z_bs (bs2 := [zO (ad 99) 10 (mFs ad (upd iv 14 (nI wc))), zI (G.2.2.1 0) (ad 0) 602 g, zI (G.2.2.1 0) (ad 13) 10 W, zI (G.2.2.1 0) (ad 15) 1024 (upd tr 0 0)]) rfl ?_
  refine z_iconst hz 1 dX10_findTurns_12 ki_1 ?_
  refine z_istore_n (lv' := [(0, .ref (ad 99)), (1, .int room), (2, .int t), (3, .int 1)]) hz [1, 2, 3, 0] dX10_findTurns_13 rfl (by decide) rfl ?_
  have lp_14 : ∀ (n9 : Nat) (k : Nat) (T : Nat → Int32), k + 1 ≤ P2 → T = trS g W t wc tr k → P2 - k < n9 → zW p G.1 e (zRm 2 0 0 70) s m args below meth c 7 Q 0 0 (zΦ G A s [zO (ad 99) 10 (mFs ad (upd iv 14 (nI wc))), zI (G.2.2.1 0) (ad 0) 602 g, zI (G.2.2.1 0) (ad 13) 10 W, zI (G.2.2.1 0) (ad 15) 1024 T]) 14 [(0, .ref (ad 99)), (1, .int room), (2, .int t), (3, .int (nI (k + 1)))] [] := by
    intro n9
    induction n9 with
    | zero => intro _ _ _ _ hm; exact absurd hm (Nat.not_lt_zero _)
    | succ n9 ih_14 =>
      intro k T hk hT hm_14
      refine z_iload_n hz dX10_findTurns_14 3 rfl rfl ?_
      refine z_iconst hz 1 dX10_findTurns_15 ki_1 ?_
      refine z_aload_n hz dX10_findTurns_16 0 rfl rfl ?_
      refine z_get (C := RX10) (T := TX10) (N := 29) hz in_X10 (zAt.mt 0 0 rfl rfl) rfl 14 (by decide) q1943 (fun _ h9 => h9) rfl dX10_findTurns_17 ?_
      refine z_ishl hz dX10_findTurns_20 ?_
      refine z_top (y := nI P2) ((bit_nat h10).trans (by rw [hP2])) ?_
      refine z_icmpN_ge hz rfl rfl (by omega) (by omega) 152 dX10_findTurns_21 (by decide) (fun c1 => ?_) (fun c1 => ?_)
      · exact z_vret hQ hz hr hlk dX10_findTurns_152 ⟨rfl, by rw [hW, hC, ← hP2, show P2 - 1 = k by omega, ← hT]⟩
      · refine z_aload_n hz dX10_findTurns_24 0 rfl rfl ?_
        refine z_get (C := RX10) (T := TX10) (N := 29) hz in_X10 (zAt.mt 0 0 rfl rfl) rfl 15 (by decide) q1944 (fun _ h9 => h9) rfl dX10_findTurns_25 ?_
        refine z_iload_n hz dX10_findTurns_28 3 rfl rfl ?_
        refine z_ldc hz q2271 dX10_findTurns_29 ?_
        refine z_iast hz 3 0 rfl rfl rfl (by omega) (by decide) dX10_findTurns_31 ?_
        refine z_bs (bs2 := [zO (ad 99) 10 (mFs ad (upd iv 14 (nI wc))), zI (G.2.2.1 0) (ad 0) 602 g, zI (G.2.2.1 0) (ad 13) 10 W, zI (G.2.2.1 0) (ad 15) 1024 (upd T (k + 1) 1000000)]) rfl ?_
        refine z_iconst hz 0 dX10_findTurns_32 ki_0 ?_
        refine z_istore (lv' := [(0, .ref (ad 99)), (1, .int room), (2, .int t), (3, .int (nI (k + 1))), (4, .int 0)]) hz [1, 2, 3, 4, 0] dX10_findTurns_33 (by decide) rfl ?_
        have lp_35 : ∀ (n9 : Nat) (a : Nat) (T2 : Nat → Int32), a ≤ wc → T2 = trA g W t wc (k + 1) (upd T (k + 1) 1000000) a → wc - a < n9 → zW p G.1 e (zRm 2 0 0 70) s m args below meth c 7 Q 0 0 (zΦ G A s [zO (ad 99) 10 (mFs ad (upd iv 14 (nI wc))), zI (G.2.2.1 0) (ad 0) 602 g, zI (G.2.2.1 0) (ad 13) 10 W, zI (G.2.2.1 0) (ad 15) 1024 T2]) 35 [(0, .ref (ad 99)), (1, .int room), (2, .int t), (3, .int (nI (k + 1))), (4, .int (nI a))] [] := by
          intro n9
          induction n9 with
          | zero => intro _ _ _ _ hm; exact absurd hm (Nat.not_lt_zero _)
          | succ n9 ih_35 =>
            intro a T2 ha hT2 hm_35
            refine z_iload hz dX10_findTurns_35 4 rfl ?_
            refine z_aload_n hz dX10_findTurns_37 0 rfl rfl ?_
            refine z_get (C := RX10) (T := TX10) (N := 29) hz in_X10 (zAt.mt 0 0 rfl rfl) rfl 14 (by decide) q1943 (fun _ h9 => h9) rfl dX10_findTurns_38 ?_
            refine z_icmpN_ge hz rfl rfl (by omega) (by omega) 146 dX10_findTurns_41 (by decide) (fun c2 => ?_) (fun c2 => ?_)
            · refine z_iinc (lv' := [(0, .ref (ad 99)), (1, .int room), (2, .int t), (3, .int (nI (k + 1 + 1))), (4, .int (nI a))]) hz (nI (k + 1 + 1)) 3 [1, 2, 3, 0, 4] dX10_findTurns_146 rfl (nI_1 _) (by decide) rfl ?_
              refine z_goto hz 14 dX10_findTurns_149 (by decide) ?_
              refine z_lv [0, 1, 2, 3] rfl ?_
              exact ih_14 (k + 1) T2 (by omega) (by simp only [trS]; rw [← hT, hT2, show wc = a by omega]) (by omega)
            · refine z_iload hz dX10_findTurns_44 4 rfl ?_
              refine z_istore (lv' := [(0, .ref (ad 99)), (1, .int room), (2, .int t), (3, .int (nI (k + 1))), (4, .int (nI a)), (5, .int (nI a))]) hz [1, 2, 3, 4, 5, 0] dX10_findTurns_46 (by decide) rfl ?_
              have lp_48 : ∀ (n9 : Nat) (d : Nat) (T3 : Nat → Int32), a + d ≤ wc → d = 0 ∨ hasB (nI (k + 1)) (nI a) → T3 = trB g W t (k + 1) a T2 d → wc - d < n9 → zW p G.1 e (zRm 2 0 0 70) s m args below meth c 7 Q 0 0 (zΦ G A s [zO (ad 99) 10 (mFs ad (upd iv 14 (nI wc))), zI (G.2.2.1 0) (ad 0) 602 g, zI (G.2.2.1 0) (ad 13) 10 W, zI (G.2.2.1 0) (ad 15) 1024 T3]) 48 [(0, .ref (ad 99)), (1, .int room), (2, .int t), (3, .int (nI (k + 1))), (4, .int (nI a)), (5, .int (nI (a + d)))] [] := by
                intro n9
                induction n9 with
                | zero => intro _ _ _ _ _ hm; exact absurd hm (Nat.not_lt_zero _)
                | succ n9 ih_48 =>
                  intro d T3 hda hd hT3 hm_48
                  refine z_iload hz dX10_findTurns_48 5 rfl ?_
                  refine z_aload_n hz dX10_findTurns_50 0 rfl rfl ?_
                  refine z_get (C := RX10) (T := TX10) (N := 29) hz in_X10 (zAt.mt 0 0 rfl rfl) rfl 14 (by decide) q1943 (fun _ h9 => h9) rfl dX10_findTurns_51 ?_
                  refine z_icmpN_ge hz rfl rfl (by omega) (by omega) 140 dX10_findTurns_54 (by decide) (fun c3 => ?_) (fun c3 => ?_)
                  · refine z_iinc (lv' := [(0, .ref (ad 99)), (1, .int room), (2, .int t), (3, .int (nI (k + 1))), (4, .int (nI (a + 1))), (5, .int (nI (a + d)))]) hz (nI (a + 1)) 4 [1, 2, 3, 4, 0, 5] dX10_findTurns_140 rfl (nI_1 _) (by decide) rfl ?_
                    refine z_goto hz 35 dX10_findTurns_143 (by decide) ?_
                    refine z_lv [0, 1, 2, 3, 4] rfl ?_
                    exact ih_35 (a + 1) T3 (by omega) (by simp only [trA]; rw [← hT2, if_pos (hd.resolve_left (by omega)), hT3, show d = wc - a by omega]) (by omega)
                  · refine z_iload_n hz dX10_findTurns_57 3 rfl rfl ?_
                    refine z_iload hz dX10_findTurns_58 4 rfl ?_
                    refine z_callRD (st2 := [.int (zB (hasB (nI (k + 1)) (nI a)))]) hz zKp.mt (zk_S hz (rm := (zRm 0 0 0 0)) (As := [.int (nI (k + 1)), .int (nI a)]) (rest := []) 2 q2272 q2273 q95 q2274 (by decide +kernel) ⟨Nat.le_of_ble_eq_true rfl, Nat.le_of_ble_eq_true rfl⟩ ⟨Nat.le_of_ble_eq_true rfl, Nat.le_of_ble_eq_true rfl⟩ rfl rfl (Nat.le_of_ble_eq_true rfl) dX10_findTurns_60) (mM_has (nI (k + 1)) (nI a)) (fun _ _ _ => zP0) rfl ?_
                    refine z_ifB_eq hz 140 dX10_findTurns_63 (by decide) (fun c4 => ?_) (fun c4 => ?_)
                    · refine z_iinc (lv' := [(0, .ref (ad 99)), (1, .int room), (2, .int t), (3, .int (nI (k + 1))), (4, .int (nI (a + 1))), (5, .int (nI (a + d)))]) hz (nI (a + 1)) 4 [1, 2, 3, 4, 0, 5] dX10_findTurns_140 rfl (nI_1 _) (by decide) rfl ?_
                      refine z_goto hz 35 dX10_findTurns_143 (by decide) ?_
                      refine z_lv [0, 1, 2, 3, 4] rfl ?_
                      exact ih_35 (a + 1) T3 (by omega) (by simp only [trA]; rw [← hT2, if_neg c4, hT3, hd.resolve_right c4]; rfl) (by omega)
                    · refine z_aload_n hz dX10_findTurns_66 0 rfl rfl ?_
                      refine z_get (C := RX10) (T := TX10) (N := 29) hz in_X10 (zAt.mt 0 0 rfl rfl) rfl 15 (by decide) q1944 (fun _ h9 => h9) rfl dX10_findTurns_67 ?_
                      refine z_iload_n hz dX10_findTurns_70 3 rfl rfl ?_
                      refine z_iconst hz 1 dX10_findTurns_71 ki_1 ?_
                      refine z_iload hz dX10_findTurns_72 4 rfl ?_
                      refine z_ishl hz dX10_findTurns_74 ?_
                      refine z_iconst hz 1 dX10_findTurns_75 ki_1 ?_
                      refine z_iload hz dX10_findTurns_76 5 rfl ?_
                      refine z_ishl hz dX10_findTurns_78 ?_
                      refine z_ior hz dX10_findTurns_79 ?_
                      refine z_iconst hz (-1) dX10_findTurns_80 ki_m1 ?_
                      refine z_ixor hz dX10_findTurns_81 ?_
                      refine z_iand hz dX10_findTurns_82 ?_
                      refine z_top (and_nat (by omega) _).1 ?_
                      refine z_iald hz (zAt.mt 3 0 rfl rfl) rfl (Nat.lt_of_le_of_lt (and_nat (by omega) _).2 (by omega)) (by decide) dX10_findTurns_83 ?_
                      refine z_istore (lv' := [(0, .ref (ad 99)), (1, .int room), (2, .int t), (3, .int (nI (k + 1))), (4, .int (nI a)), (5, .int (nI (a + d))), (6, .int (T3 (woS (k + 1) a (a + d))))]) hz [1, 2, 3, 4, 5, 6, 0] dX10_findTurns_84 (by decide) rfl ?_
                      refine z_iload_n hz dX10_findTurns_86 3 rfl rfl ?_
                      refine z_iload hz dX10_findTurns_87 5 rfl ?_
                      refine z_callRD (st2 := [.int (zB (hasB (nI (k + 1)) (nI (a + d))))]) hz zKp.mt (zk_S hz (rm := (zRm 0 0 0 0)) (As := [.int (nI (k + 1)), .int (nI (a + d))]) (rest := []) 2 q2272 q2273 q95 q2274 (by decide +kernel) ⟨Nat.le_of_ble_eq_true rfl, Nat.le_of_ble_eq_true rfl⟩ ⟨Nat.le_of_ble_eq_true rfl, Nat.le_of_ble_eq_true rfl⟩ rfl rfl (Nat.le_of_ble_eq_true rfl) dX10_findTurns_89) (mM_has (nI (k + 1)) (nI (a + d))) (fun _ _ _ => zP0) rfl ?_
                      refine z_ifB_eq hz 134 dX10_findTurns_92 (by decide) (fun c5 => ?_) (fun c5 => ?_)
                      · refine z_iinc (lv' := [(0, .ref (ad 99)), (1, .int room), (2, .int t), (3, .int (nI (k + 1))), (4, .int (nI a)), (5, .int (nI (a + d + 1))), (6, .int (T3 (woS (k + 1) a (a + d))))]) hz (nI (a + d + 1)) 5 [1, 2, 3, 4, 5, 0, 6] dX10_findTurns_134 rfl (nI_1 _) (by decide) rfl ?_
                        refine z_goto hz 48 dX10_findTurns_137 (by decide) ?_
                        refine z_lv [0, 1, 2, 3, 4, 5] rfl ?_
                        exact ih_48 (d + 1) T3 (by omega) (Or.inr c4) (by simp only [trB]; rw [← hT3, if_neg (fun h9 => c5 h9.1)]) (by omega)
                      · refine z_iload hz dX10_findTurns_95 6 rfl ?_
                        refine z_iconst hz 1 dX10_findTurns_97 ki_1 ?_
                        refine z_iadd hz dX10_findTurns_98 ?_
                        refine z_aload_n hz dX10_findTurns_99 0 rfl rfl ?_
                        refine z_get (C := RX10) (T := TX10) (N := 29) hz in_X10 (zAt.mt 0 0 rfl rfl) rfl 15 (by decide) q1944 (fun _ h9 => h9) rfl dX10_findTurns_100 ?_
                        refine z_iload_n hz dX10_findTurns_103 3 rfl rfl ?_
                        refine z_iald hz (zAt.mt 3 0 rfl rfl) rfl (by omega) (by decide) dX10_findTurns_104 ?_
                        refine z_icmp_ge hz 134 dX10_findTurns_105 (by decide) (fun c6 => ?_) (fun c6 => ?_)
                        · refine z_iinc (lv' := [(0, .ref (ad 99)), (1, .int room), (2, .int t), (3, .int (nI (k + 1))), (4, .int (nI a)), (5, .int (nI (a + d + 1))), (6, .int (T3 (woS (k + 1) a (a + d))))]) hz (nI (a + d + 1)) 5 [1, 2, 3, 4, 5, 0, 6] dX10_findTurns_134 rfl (nI_1 _) (by decide) rfl ?_
                          refine z_goto hz 48 dX10_findTurns_137 (by decide) ?_
                          refine z_lv [0, 1, 2, 3, 4, 5] rfl ?_
                          exact ih_48 (d + 1) T3 (by omega) (Or.inr c4) (by simp only [trB]; rw [← hT3, if_neg (fun h9 => (Int32.not_lt.mpr c6) h9.2.1)]) (by omega)
                        · obtain ⟨ma, hma1, hma⟩ := hWn a (by omega)
                          obtain ⟨mb, hmb1, hmb⟩ := hWn (a + d) (by omega)
                          refine z_aload_n hz dX10_findTurns_108 0 rfl rfl ?_
                          refine z_iload hz dX10_findTurns_109 4 rfl ?_
                          refine z_iload hz dX10_findTurns_111 5 rfl ?_
                          refine z_iload hz dX10_findTurns_113 6 rfl ?_
                          refine z_iconst hz 1 dX10_findTurns_115 ki_1 ?_
                          refine z_iadd hz dX10_findTurns_116 ?_
                          refine z_iload_n hz dX10_findTurns_117 2 rfl rfl ?_
                          refine z_callRD (st2 := [.int (canP g W a (a + d) ((T3 (woS (k + 1) a (a + d))) + 1) t)]) hz zKp.mt (zk_V hz (rm := (zRm 1 0 0 30)) (As := [.int (nI a), .int (nI (a + d)), .int ((T3 (woS (k + 1) a (a + d))) + 1), .int t]) (rest := []) 4 q2275 q2277 qs63 q95 q2278 (by decide +kernel) ⟨Nat.le_of_ble_eq_true rfl, Nat.le_of_ble_eq_true rfl⟩ ⟨Nat.le_of_ble_eq_true rfl, Nat.le_of_ble_eq_true rfl⟩ (zRecv (q := (RX10, TX10, 29)) hz (zAt.mt 0 0 rfl rfl) rfl) rfl rfl (Nat.le_of_ble_eq_true rfl) dX10_findTurns_118) (mM_canGo ad (upd iv 14 (nI wc)) g W a (a + d) ma mb ((T3 (woS (k + 1) a (a + d))) + 1) t (by omega) (by omega) hma hmb (by omega) (by omega)) (fun H9 L9 h9 => (zPc (zAt.mt 0 0 rfl rfl) h9 (zPc (zAt.mt 1 0 rfl rfl) h9 (zPc (zAt.mt 2 0 rfl rfl) h9 zP0)))) rfl ?_
                          refine z_if_eq hz 134 dX10_findTurns_121 (by decide) (fun c7 => ?_) (fun c7 => ?_)
                          · refine z_iinc (lv' := [(0, .ref (ad 99)), (1, .int room), (2, .int t), (3, .int (nI (k + 1))), (4, .int (nI a)), (5, .int (nI (a + d + 1))), (6, .int (T3 (woS (k + 1) a (a + d))))]) hz (nI (a + d + 1)) 5 [1, 2, 3, 4, 5, 0, 6] dX10_findTurns_134 rfl (nI_1 _) (by decide) rfl ?_
                            refine z_goto hz 48 dX10_findTurns_137 (by decide) ?_
                            refine z_lv [0, 1, 2, 3, 4, 5] rfl ?_
                            exact ih_48 (d + 1) T3 (by omega) (Or.inr c4) (by simp only [trB]; rw [← hT3, if_neg (fun h9 => h9.2.2 c7)]) (by omega)
                          · refine z_aload_n hz dX10_findTurns_124 0 rfl rfl ?_
                            refine z_get (C := RX10) (T := TX10) (N := 29) hz in_X10 (zAt.mt 0 0 rfl rfl) rfl 15 (by decide) q1944 (fun _ h9 => h9) rfl dX10_findTurns_125 ?_
                            refine z_iload_n hz dX10_findTurns_128 3 rfl rfl ?_
                            refine z_iload hz dX10_findTurns_129 6 rfl ?_
                            refine z_iconst hz 1 dX10_findTurns_131 ki_1 ?_
                            refine z_iadd hz dX10_findTurns_132 ?_
                            refine z_iast hz 3 0 rfl rfl rfl (by omega) (by decide) dX10_findTurns_133 ?_
                            refine z_bs (bs2 := [zO (ad 99) 10 (mFs ad (upd iv 14 (nI wc))), zI (G.2.2.1 0) (ad 0) 602 g, zI (G.2.2.1 0) (ad 13) 10 W, zI (G.2.2.1 0) (ad 15) 1024 (upd T3 (k + 1) ((T3 (woS (k + 1) a (a + d))) + 1))]) rfl ?_
                            refine z_iinc (lv' := [(0, .ref (ad 99)), (1, .int room), (2, .int t), (3, .int (nI (k + 1))), (4, .int (nI a)), (5, .int (nI (a + d + 1))), (6, .int (T3 (woS (k + 1) a (a + d))))]) hz (nI (a + d + 1)) 5 [1, 2, 3, 4, 5, 0, 6] dX10_findTurns_134 rfl (nI_1 _) (by decide) rfl ?_
                            refine z_goto hz 48 dX10_findTurns_137 (by decide) ?_
                            refine z_lv [0, 1, 2, 3, 4, 5] rfl ?_
                            exact ih_48 (d + 1) (upd T3 (k + 1) ((T3 (woS (k + 1) a (a + d))) + 1)) (by omega) (Or.inr c4) (by simp only [trB]; rw [← hT3, if_pos ⟨c5, (Int32.not_le.mp c6), c7⟩]) (by omega)
              exact lp_48 ((wc - 0) + 1) 0 T2 (by omega) (Or.inl rfl) rfl (Nat.lt_succ_self _)
        exact lp_35 ((wc - 0) + 1) 0 (upd T (k + 1) 1000000) (Nat.zero_le _) rfl (Nat.lt_succ_self _)
  exact lp_14 ((P2 - 0) + 1) 0 (upd tr 0 0) (by omega) rfl (Nat.lt_succ_self _)
set_option maxHeartbeats 400000 in
theorem mM_mostOf {G : zG} (ad : Nat → Nat) (iv T : Nat → Int32) (wc : Nat) (h10 : wc ≤ 10) : zRd G yX10_mostOf (ws_ yX10_mostOf cX10_mostOf 4 (some .int)) (zRm 1 0 0 30) [.ref (ad 99)] [(ad 99, .inr (10, mFs ad (upd iv 14 (nI wc)))), (ad 15, .inl (G.2.2.1 0, 1024, .inl T))] (fun v9 => v9 = some (.int (nI (moF T (2 ^ wc - 1))))) := by
  refine zRd.of (by decide +kernel) (Nat.le_of_ble_eq_true rfl) ?_
  intro p e s m args below meth c hz hP hr hlk Q hQ
  refine z_lv (lv' := [(0, .ref (ad 99))]) [0] rfl ?_
  obtain ⟨P2, hP2⟩ : ∃ q, q = 2 ^ wc := ⟨_, rfl⟩
  have hp2 := pow_10 h10
  rw [← hP2] at hp2
  refine z_iconst hz 0 dX10_mostOf_0 ki_0 ?_
  refine z_istore_n (lv' := [(0, .ref (ad 99)), (1, .int 0)]) hz [1, 0] dX10_mostOf_1 rfl (by decide) rfl ?_
  refine z_iconst hz 1 dX10_mostOf_2 ki_1 ?_
  refine z_istore_n (lv' := [(0, .ref (ad 99)), (1, .int 0), (2, .int 1)]) hz [1, 2, 0] dX10_mostOf_3 rfl (by decide) rfl ?_
  have lp_4 : ∀ (n9 : Nat) (k : Nat) (best : Nat), k + 1 ≤ P2 → best = moF T k → P2 - k < n9 → zW p G.1 e (zRm 1 0 0 30) s m args below meth c 4 Q 0 0 (zΨ s) 4 [(0, .ref (ad 99)), (1, .int (nI best)), (2, .int (nI (k + 1)))] [] := by
    intro n9
    induction n9 with
    | zero => intro _ _ _ _ hm; exact absurd hm (Nat.not_lt_zero _)
    | succ n9 ih_4 =>
      intro k best hk hb hm_4
      have hbk : best ≤ k := by rw [hb]; exact moF_le k
      refine z_iload_n hz dX10_mostOf_4 2 rfl rfl ?_
      refine z_iconst hz 1 dX10_mostOf_5 ki_1 ?_
      refine z_aload_n hz dX10_mostOf_6 0 rfl rfl ?_
      refine z_get (C := RX10) (T := TX10) (N := 29) hz in_X10 (zAt.rd hP 0 rfl) rfl 14 (by decide) q1943 (fun _ h9 => h9) rfl dX10_mostOf_7 ?_
      refine z_ishl hz dX10_mostOf_10 ?_
      refine z_top (y := nI P2) ((bit_nat h10).trans (by rw [hP2])) ?_
      refine z_icmpN_ge hz rfl rfl (by omega) (by omega) 66 dX10_mostOf_11 (by decide) (fun c1 => ?_) (fun c1 => ?_)
      · refine z_iload_n hz dX10_mostOf_66 1 rfl rfl ?_
        exact zr_iret hQ hz hr hlk dX10_mostOf_67 (by rw [hb, ← hP2, show P2 - 1 = k by omega])
      · refine z_iload_n hz dX10_mostOf_14 2 rfl rfl ?_
        refine z_callRD (st2 := [.int (bitsF (nI (k + 1)) 16)]) hz zKp.rd (zk_S hz (rm := (zRm 0 0 0 0)) (As := [.int (nI (k + 1))]) (rest := []) 1 q2142 q2143 q95 q2144 (by decide +kernel) ⟨Nat.le_of_ble_eq_true rfl, Nat.le_of_ble_eq_true rfl⟩ ⟨Nat.le_of_ble_eq_true rfl, Nat.le_of_ble_eq_true rfl⟩ rfl rfl (Nat.le_of_ble_eq_true rfl) dX10_mostOf_15) (mM_bits (nI (k + 1))) (fun _ _ _ => zP0) rfl ?_
        refine z_iload_n hz dX10_mostOf_18 1 rfl rfl ?_
        refine z_callRD (st2 := [.int (bitsF (nI best) 16), .int (bitsF (nI (k + 1)) 16)]) hz zKp.rd (zk_S hz (rm := (zRm 0 0 0 0)) (As := [.int (nI best)]) (rest := [.int (bitsF (nI (k + 1)) 16)]) 1 q2142 q2143 q95 q2144 (by decide +kernel) ⟨Nat.le_of_ble_eq_true rfl, Nat.le_of_ble_eq_true rfl⟩ ⟨Nat.le_of_ble_eq_true rfl, Nat.le_of_ble_eq_true rfl⟩ rfl rfl (Nat.le_of_ble_eq_true rfl) dX10_mostOf_19) (mM_bits (nI best)) (fun _ _ _ => zP0) rfl ?_
        refine z_isub hz dX10_mostOf_22 ?_
        refine z_istore_n (lv' := [(0, .ref (ad 99)), (1, .int (nI best)), (2, .int (nI (k + 1))), (3, .int ((bitsF (nI (k + 1)) 16) - (bitsF (nI best) 16)))]) hz [1, 2, 3, 0] dX10_mostOf_23 rfl (by decide) rfl ?_
        refine z_aload_n hz dX10_mostOf_24 0 rfl rfl ?_
        refine z_get (C := RX10) (T := TX10) (N := 29) hz in_X10 (zAt.rd hP 0 rfl) rfl 15 (by decide) q1944 (fun _ h9 => h9) rfl dX10_mostOf_25 ?_
        refine z_iload_n hz dX10_mostOf_28 2 rfl rfl ?_
        refine z_iald hz (zAt.rd hP 1 rfl) rfl (by omega) (by decide) dX10_mostOf_29 ?_
        refine z_ldc hz q2271 dX10_mostOf_30 ?_
        refine z_icmp_ge hz 60 dX10_mostOf_32 (by decide) (fun c2 => ?_) (fun c2 => ?_)
        · refine z_iinc (lv' := [(0, .ref (ad 99)), (1, .int (nI best)), (2, .int (nI (k + 1 + 1))), (3, .int ((bitsF (nI (k + 1)) 16) - (bitsF (nI best) 16)))]) hz (nI (k + 1 + 1)) 2 [1, 2, 0, 3] dX10_mostOf_60 rfl (nI_1 _) (by decide) rfl ?_
          refine z_goto hz 4 dX10_mostOf_63 (by decide) ?_
          refine z_lv [0, 1, 2] rfl ?_
          exact ih_4 (k + 1) best (by omega) (by simp only [moF]; rw [← hb, if_neg (fun h9 => (Int32.not_lt.mpr c2) h9.1)]) (by omega)
        · refine z_iload_n hz dX10_mostOf_35 3 rfl rfl ?_
          refine z_if_gt hz 58 dX10_mostOf_36 (by decide) (fun c3 => ?_) (fun c3 => ?_)
          · refine z_iload_n hz dX10_mostOf_58 2 rfl rfl ?_
            refine z_istore_n (lv' := [(0, .ref (ad 99)), (1, .int (nI (k + 1))), (2, .int (nI (k + 1))), (3, .int ((bitsF (nI (k + 1)) 16) - (bitsF (nI best) 16)))]) hz [1, 0, 2, 3] dX10_mostOf_59 rfl (by decide) rfl ?_
            refine z_iinc (lv' := [(0, .ref (ad 99)), (1, .int (nI (k + 1))), (2, .int (nI (k + 1 + 1))), (3, .int ((bitsF (nI (k + 1)) 16) - (bitsF (nI best) 16)))]) hz (nI (k + 1 + 1)) 2 [1, 2, 0, 3] dX10_mostOf_60 rfl (nI_1 _) (by decide) rfl ?_
            refine z_goto hz 4 dX10_mostOf_63 (by decide) ?_
            refine z_lv [0, 1, 2] rfl ?_
            exact ih_4 (k + 1) (k + 1) (by omega) (by simp only [moF]; rw [← hb, if_pos ⟨(Int32.not_le.mp c2), Or.inl c3⟩]) (by omega)
          · refine z_iload_n hz dX10_mostOf_39 3 rfl rfl ?_
            refine z_if_ne hz 60 dX10_mostOf_40 (by decide) (fun c4 => ?_) (fun c4 => ?_)
            · refine z_iinc (lv' := [(0, .ref (ad 99)), (1, .int (nI best)), (2, .int (nI (k + 1 + 1))), (3, .int ((bitsF (nI (k + 1)) 16) - (bitsF (nI best) 16)))]) hz (nI (k + 1 + 1)) 2 [1, 2, 0, 3] dX10_mostOf_60 rfl (nI_1 _) (by decide) rfl ?_
              refine z_goto hz 4 dX10_mostOf_63 (by decide) ?_
              refine z_lv [0, 1, 2] rfl ?_
              exact ih_4 (k + 1) best (by omega) (by simp only [moF]; rw [← hb, if_neg (fun h9 => h9.2.elim c3 (fun h8 => c4 h8.1))]) (by omega)
            · refine z_aload_n hz dX10_mostOf_43 0 rfl rfl ?_
              refine z_get (C := RX10) (T := TX10) (N := 29) hz in_X10 (zAt.rd hP 0 rfl) rfl 15 (by decide) q1944 (fun _ h9 => h9) rfl dX10_mostOf_44 ?_
              refine z_iload_n hz dX10_mostOf_47 2 rfl rfl ?_
              refine z_iald hz (zAt.rd hP 1 rfl) rfl (by omega) (by decide) dX10_mostOf_48 ?_
              refine z_aload_n hz dX10_mostOf_49 0 rfl rfl ?_
              refine z_get (C := RX10) (T := TX10) (N := 29) hz in_X10 (zAt.rd hP 0 rfl) rfl 15 (by decide) q1944 (fun _ h9 => h9) rfl dX10_mostOf_50 ?_
              refine z_iload_n hz dX10_mostOf_53 1 rfl rfl ?_
              refine z_iald hz (zAt.rd hP 1 rfl) rfl (by omega) (by decide) dX10_mostOf_54 ?_
              refine z_icmp_ge hz 60 dX10_mostOf_55 (by decide) (fun c5 => ?_) (fun c5 => ?_)
              · refine z_iinc (lv' := [(0, .ref (ad 99)), (1, .int (nI best)), (2, .int (nI (k + 1 + 1))), (3, .int ((bitsF (nI (k + 1)) 16) - (bitsF (nI best) 16)))]) hz (nI (k + 1 + 1)) 2 [1, 2, 0, 3] dX10_mostOf_60 rfl (nI_1 _) (by decide) rfl ?_
                refine z_goto hz 4 dX10_mostOf_63 (by decide) ?_
                refine z_lv [0, 1, 2] rfl ?_
                exact ih_4 (k + 1) best (by omega) (by simp only [moF]; rw [← hb, if_neg (fun h9 => h9.2.elim c3 (fun h8 => (Int32.not_lt.mpr c5) h8.2))]) (by omega)
              · refine z_iload_n hz dX10_mostOf_58 2 rfl rfl ?_
                refine z_istore_n (lv' := [(0, .ref (ad 99)), (1, .int (nI (k + 1))), (2, .int (nI (k + 1))), (3, .int ((bitsF (nI (k + 1)) 16) - (bitsF (nI best) 16)))]) hz [1, 0, 2, 3] dX10_mostOf_59 rfl (by decide) rfl ?_
                refine z_iinc (lv' := [(0, .ref (ad 99)), (1, .int (nI (k + 1))), (2, .int (nI (k + 1 + 1))), (3, .int ((bitsF (nI (k + 1)) 16) - (bitsF (nI best) 16)))]) hz (nI (k + 1 + 1)) 2 [1, 2, 0, 3] dX10_mostOf_60 rfl (nI_1 _) (by decide) rfl ?_
                refine z_goto hz 4 dX10_mostOf_63 (by decide) ?_
                refine z_lv [0, 1, 2] rfl ?_
                exact ih_4 (k + 1) (k + 1) (by omega) (by simp only [moF]; rw [← hb, if_pos ⟨(Int32.not_le.mp c2), Or.inr ⟨c4, (Int32.not_le.mp c5)⟩⟩]) (by omega)
  exact lp_4 ((P2 - 0) + 1) 0 0 (by omega) rfl (Nat.lt_succ_self _)
set_option maxHeartbeats 400000 in
theorem mM_asMen {G : zG} (ad : Nat → Nat) (iv W : Nat → Int32) (wc : Nat) (h10 : wc ≤ 10) (set : Int32) : zRd G yX10_asMen (ws_ yX10_asMen cX10_asMen 4 (some .int)) (zRm 1 0 0 30) [.ref (ad 99), .int set] [(ad 99, .inr (10, mFs ad (upd iv 14 (nI wc)))), (ad 13, .inl (G.2.2.1 0, 10, .inl W))] (fun v9 => v9 = some (.int (amF W set wc))) := by
  refine zRd.of (by decide +kernel) (Nat.le_of_ble_eq_true rfl) ?_
  intro p e s m args below meth c hz hP hr hlk Q hQ
  refine z_lv (lv' := [(0, .ref (ad 99)), (1, .int set)]) [0, 1] rfl ?_
  refine z_iconst hz 0 dX10_asMen_0 ki_0 ?_
  refine z_istore_n (lv' := [(0, .ref (ad 99)), (1, .int set), (2, .int 0)]) hz [1, 2, 0] dX10_asMen_1 rfl (by decide) rfl ?_
  refine z_iconst hz 0 dX10_asMen_2 ki_0 ?_
  refine z_istore_n (lv' := [(0, .ref (ad 99)), (1, .int set), (2, .int 0), (3, .int 0)]) hz [1, 2, 3, 0] dX10_asMen_3 rfl (by decide) rfl ?_
  have lp_4 : ∀ (n9 : Nat) (k : Nat) (x : Int32), k ≤ wc → x = amF W set k → wc - k < n9 → zW p G.1 e (zRm 1 0 0 30) s m args below meth c 4 Q 0 0 (zΨ s) 4 [(0, .ref (ad 99)), (1, .int set), (2, .int x), (3, .int (nI k))] [] := by
    intro n9
    induction n9 with
    | zero => intro _ _ _ _ hm; exact absurd hm (Nat.not_lt_zero _)
    | succ n9 ih_4 =>
      intro k x hk hx hm_4
      refine z_iload_n hz dX10_asMen_4 3 rfl rfl ?_
      refine z_aload_n hz dX10_asMen_5 0 rfl rfl ?_
      refine z_get (C := RX10) (T := TX10) (N := 29) hz in_X10 (zAt.rd hP 0 rfl) rfl 14 (by decide) q1943 (fun _ h9 => h9) rfl dX10_asMen_6 ?_
      refine z_icmpN_ge hz rfl rfl (by omega) (by omega) 41 dX10_asMen_9 (by decide) (fun c1 => ?_) (fun c1 => ?_)
      · refine z_iload_n hz dX10_asMen_41 2 rfl rfl ?_
        exact zr_iret hQ hz hr hlk dX10_asMen_42 (by rw [hx, show k = wc by omega])
      · refine z_iload_n hz dX10_asMen_12 2 rfl rfl ?_
        refine z_iload_n hz dX10_asMen_13 1 rfl rfl ?_
        refine z_iload_n hz dX10_asMen_14 3 rfl rfl ?_
        refine z_callRD (st2 := [.int (zB (hasB set (nI k))), .int x]) hz zKp.rd (zk_S hz (rm := (zRm 0 0 0 0)) (As := [.int set, .int (nI k)]) (rest := [.int x]) 2 q2272 q2273 q95 q2274 (by decide +kernel) ⟨Nat.le_of_ble_eq_true rfl, Nat.le_of_ble_eq_true rfl⟩ ⟨Nat.le_of_ble_eq_true rfl, Nat.le_of_ble_eq_true rfl⟩ rfl rfl (Nat.le_of_ble_eq_true rfl) dX10_asMen_15) (mM_has set (nI k)) (fun _ _ _ => zP0) rfl ?_
        refine z_ifB_eq hz 32 dX10_asMen_18 (by decide) (fun c2 => ?_) (fun c2 => ?_)
        · refine z_iconst hz 0 dX10_asMen_32 ki_0 ?_
          refine z_ior hz dX10_asMen_33 ?_
          refine z_istore_n (lv' := [(0, .ref (ad 99)), (1, .int set), (2, .int (x ||| 0)), (3, .int (nI k))]) hz [1, 2, 0, 3] dX10_asMen_34 rfl (by decide) rfl ?_
          refine z_iinc (lv' := [(0, .ref (ad 99)), (1, .int set), (2, .int (x ||| 0)), (3, .int (nI (k + 1)))]) hz (nI (k + 1)) 3 [1, 2, 3, 0] dX10_asMen_35 rfl (nI_1 _) (by decide) rfl ?_
          refine z_goto hz 4 dX10_asMen_38 (by decide) ?_
          exact ih_4 (k + 1) (x ||| 0) (by omega) (by rw [hx]; exact (congrArg (amF W set k ||| ·) (if_neg c2)).symm) (by omega)
        · refine z_iconst hz 1 dX10_asMen_21 ki_1 ?_
          refine z_aload_n hz dX10_asMen_22 0 rfl rfl ?_
          refine z_get (C := RX10) (T := TX10) (N := 29) hz in_X10 (zAt.rd hP 0 rfl) rfl 13 (by decide) q1942 (fun _ h9 => h9) rfl dX10_asMen_23 ?_
          refine z_iload_n hz dX10_asMen_26 3 rfl rfl ?_
          refine z_iald hz (zAt.rd hP 1 rfl) rfl (by omega) (by decide) dX10_asMen_27 ?_
          refine z_ishl hz dX10_asMen_28 ?_
          refine z_goto hz 33 dX10_asMen_29 (by decide) ?_
          refine z_ior hz dX10_asMen_33 ?_
          refine z_istore_n (lv' := [(0, .ref (ad 99)), (1, .int set), (2, .int (x ||| (1 <<< ((W k) &&& 31)))), (3, .int (nI k))]) hz [1, 2, 0, 3] dX10_asMen_34 rfl (by decide) rfl ?_
          refine z_iinc (lv' := [(0, .ref (ad 99)), (1, .int set), (2, .int (x ||| (1 <<< ((W k) &&& 31)))), (3, .int (nI (k + 1)))]) hz (nI (k + 1)) 3 [1, 2, 3, 0] dX10_asMen_35 rfl (nI_1 _) (by decide) rfl ?_
          refine z_goto hz 4 dX10_asMen_38 (by decide) ?_
          exact ih_4 (k + 1) (x ||| (1 <<< ((W k) &&& 31))) (by omega) (by rw [hx]; exact (congrArg (amF W set k ||| ·) (if_pos c2)).symm) (by omega)
  exact lp_4 ((wc - 0) + 1) 0 0 (Nat.zero_le _) rfl (Nat.lt_succ_self _)
