set_option maxRecDepth 100000
theorem rE1 {g : Nat → Int32} : (-1000001 : Int32) = rOf (1, 0, g) := (by decide : (-1000001 : Int32) = (-1000000) - nI 1)
theorem rE2 {g : Nat → Int32} : (-1000002 : Int32) = rOf (2, 0, g) := (by decide : (-1000002 : Int32) = (-1000000) - nI 2)
theorem rE3 {g : Nat → Int32} : (-1000003 : Int32) = rOf (3, 0, g) := (by decide : (-1000003 : Int32) = (-1000000) - nI 3)
theorem rE4 {g : Nat → Int32} : (-1000004 : Int32) = rOf (4, 0, g) := (by decide : (-1000004 : Int32) = (-1000000) - nI 4)
theorem rE5 {g : Nat → Int32} : (-1000005 : Int32) = rOf (5, 0, g) := (by decide : (-1000005 : Int32) = (-1000000) - nI 5)
set_option maxHeartbeats 400000 in
theorem mM_within {G : zG} (v lo hi : Int32) : zRd G yX10_within (ws_ yX10_within cX10_within 3 (some .boolean)) (zRm 0 0 0 0) [.int v, .int lo, .int hi] [] (fun v9 => v9 = some (.int (zB (inR v lo hi)))) := by
  refine zRd.of (by decide +kernel) (Nat.le_of_ble_eq_true rfl) ?_
  intro p e s m args below meth c hz hP hr hlk Q hQ
  refine z_lv (lv' := [(0, .int v), (1, .int lo), (2, .int hi)]) [0, 1, 2] rfl ?_
  refine z_iload_n hz dX10_within_0 0 rfl rfl ?_
  refine z_iload_n hz dX10_within_1 1 rfl rfl ?_
  refine z_icmp_lt hz 14 dX10_within_2 (by decide) (fun c1 => ?_) (fun c1 => ?_)
  · refine z_iconst hz 0 dX10_within_14 ki_0 ?_
    exact zr_zret hQ hz hr hlk (by decide) dX10_within_15 (by simp [zB, inR, Int32.not_le.mpr c1])
  · refine z_iload_n hz dX10_within_5 0 rfl rfl ?_
    refine z_iload_n hz dX10_within_6 2 rfl rfl ?_
    refine z_icmp_gt hz 14 dX10_within_7 (by decide) (fun c2 => ?_) (fun c2 => ?_)
    · refine z_iconst hz 0 dX10_within_14 ki_0 ?_
      exact zr_zret hQ hz hr hlk (by decide) dX10_within_15 (by simp [zB, inR, Int32.not_lt.mp c1, Int32.not_le.mpr c2])
    · refine z_iconst hz 1 dX10_within_10 ki_1 ?_
      refine z_goto hz 15 dX10_within_11 (by decide) ?_
      exact zr_zret hQ hz hr hlk (by decide) dX10_within_15 (by simp [zB, inR, Int32.not_lt.mp c1, Int32.not_lt.mp c2])
set_option maxHeartbeats 400000 in
theorem mM_isRoom {G : zG} (v : Int32) : zRd G yX10_isRoom (ws_ yX10_isRoom cX10_isRoom 1 (some .boolean)) (zRm 1 0 0 30) [.int v] [] (fun v9 => v9 = some (.int (zB (inR v 0 7)))) := by
  refine zRd.of (by decide +kernel) (Nat.le_of_ble_eq_true rfl) ?_
  intro p e s m args below meth c hz hP hr hlk Q hQ
  refine z_lv (lv' := [(0, .int v)]) [0] rfl ?_
  refine z_iload_n hz dX10_isRoom_0 0 rfl rfl ?_
  refine z_iconst hz 0 dX10_isRoom_1 ki_0 ?_
  refine z_bipush hz 7 dX10_isRoom_2 kb_7 ?_
  refine z_callRD (st2 := [.int (zB (inR v 0 7))]) hz zKp.rd (zk_S hz (rm := (zRm 0 0 0 0)) (As := [.int v, .int 0, .int 7]) (rest := []) 3 q2023 q2024 q95 q2025 (by decide +kernel) ⟨Nat.le_of_ble_eq_true rfl, Nat.le_of_ble_eq_true rfl⟩ ⟨Nat.le_of_ble_eq_true rfl, Nat.le_of_ble_eq_true rfl⟩ rfl rfl (Nat.le_of_ble_eq_true rfl) dX10_isRoom_4) (mM_within v 0 7) (fun _ _ _ => zP0) rfl ?_
  exact zr_zret hQ hz hr hlk zB_nar dX10_isRoom_7 rfl
set_option maxHeartbeats 400000 in
theorem mM_is {G : zG} (ad : Nat → Nat) (iv g : Nat → Int32) (v : Int32) (k : Nat) (hk : k < 602) : zRd G yX10_is (ws_ yX10_is cX10_is 3 (some .boolean)) (zRm 1 0 0 30) [.ref (ad 99), .int v, .int (nI k)] [(ad 99, .inr (10, mFs ad iv)), (ad 0, .inl (G.2.2.1 0, 602, .inl g))] (fun v9 => v9 = some (.int (zB (inR v 0 (g k - 1))))) := by
  refine zRd.of (by decide +kernel) (Nat.le_of_ble_eq_true rfl) ?_
  intro p e s m args below meth c hz hP hr hlk Q hQ
  refine z_lv (lv' := [(0, .ref (ad 99)), (1, .int v), (2, .int (nI k))]) [0, 1, 2] rfl ?_
  refine z_iload_n hz dX10_is_0 1 rfl rfl ?_
  refine z_iconst hz 0 dX10_is_1 ki_0 ?_
  refine z_aload_n hz dX10_is_2 0 rfl rfl ?_
  refine z_get (C := RX10) (T := TX10) (N := 29) hz in_X10 (zAt.rd hP 0 rfl) rfl 0 (by decide) q1929 (fun _ h9 => h9) rfl dX10_is_3 ?_
  refine z_iload_n hz dX10_is_6 2 rfl rfl ?_
  refine z_iald hz (zAt.rd hP 1 rfl) rfl (by omega) (by decide) dX10_is_7 ?_
  refine z_iconst hz 1 dX10_is_8 ki_1 ?_
  refine z_isub hz dX10_is_9 ?_
  refine z_callRD (st2 := [.int (zB (inR v 0 ((g k) - 1)))]) hz zKp.rd (zk_S hz (rm := (zRm 0 0 0 0)) (As := [.int v, .int 0, .int ((g k) - 1)]) (rest := []) 3 q2023 q2024 q95 q2025 (by decide +kernel) ⟨Nat.le_of_ble_eq_true rfl, Nat.le_of_ble_eq_true rfl⟩ ⟨Nat.le_of_ble_eq_true rfl, Nat.le_of_ble_eq_true rfl⟩ rfl rfl (Nat.le_of_ble_eq_true rfl) dX10_is_10) (mM_within v 0 ((g k) - 1)) (fun _ _ _ => zP0) rfl ?_
  exact zr_zret hQ hz hr hlk zB_nar dX10_is_13 rfl
set_option maxHeartbeats 400000 in
theorem mM_has {G : zG} (x k : Int32) : zRd G yX10_has (ws_ yX10_has cX10_has 2 (some .boolean)) (zRm 0 0 0 0) [.int x, .int k] [] (fun v9 => v9 = some (.int (zB (hasB x k)))) := by
  refine zRd.of (by decide +kernel) (Nat.le_of_ble_eq_true rfl) ?_
  intro p e s m args below meth c hz hP hr hlk Q hQ
  refine z_lv (lv' := [(0, .int x), (1, .int k)]) [0, 1] rfl ?_
  refine z_iload_n hz dX10_has_0 0 rfl rfl ?_
  refine z_iload_n hz dX10_has_1 1 rfl rfl ?_
  refine z_ishr hz dX10_has_2 ?_
  refine z_iconst hz 1 dX10_has_3 ki_1 ?_
  refine z_iand hz dX10_has_4 ?_
  refine z_iconst hz 1 dX10_has_5 ki_1 ?_
  refine z_icmp_ne hz 13 dX10_has_6 (by decide) (fun c1 => ?_) (fun c1 => ?_)
  · refine z_iconst hz 0 dX10_has_13 ki_0 ?_
    exact zr_zret hQ hz hr hlk (by decide) dX10_has_14 (by simp [zB, hasB, dig, c1])
  · refine z_iconst hz 1 dX10_has_9 ki_1 ?_
    refine z_goto hz 14 dX10_has_10 (by decide) ?_
    exact zr_zret hQ hz hr hlk (by decide) dX10_has_14 (by simp [zB, hasB, dig, c1])
set_option maxHeartbeats 400000 in
theorem mM_become {G : zG} (ad : Nat → Nat) (iv g : Nat → Int32) (a : Nat) (v : Int32) (ha : a < 602) : zMet G yX10_become (ws_ yX10_become cX10_become 4 (some .int)) (zRm 0 0 0 0) [.ref (ad 99), .int (nI a), .int v] [zO (ad 99) 10 (mFs ad iv), zI (G.2.2.1 0) (ad 0) 602 g] (fun v9 b9 => v9 = some (.int (g a)) ∧ b9 = [zO (ad 99) 10 (mFs ad iv), zI (G.2.2.1 0) (ad 0) 602 (upd g a v)]) := by
  refine zMet.of (by decide +kernel) (Nat.le_of_ble_eq_true rfl) ?_
  intro p e s m args below meth c A hz hA hr hlk hnm9 Q hQ
  refine z_lv (lv' := [(0, .ref (ad 99)), (1, .int (nI a)), (2, .int v)]) [0, 1, 2] rfl ?_
  refine z_aload_n hz dX10_become_0 0 rfl rfl ?_
  refine z_get (C := RX10) (T := TX10) (N := 29) hz in_X10 (zAt.mt 0 0 rfl rfl) rfl 0 (by decide) q1929 (fun _ h9 => h9) rfl dX10_become_1 ?_
  refine z_iload_n hz dX10_become_4 1 rfl rfl ?_
  refine z_iald hz (zAt.mt 1 0 rfl rfl) rfl (by omega) (by decide) dX10_become_5 ?_
  refine z_istore_n (lv' := [(0, .ref (ad 99)), (1, .int (nI a)), (2, .int v), (3, .int (g a))]) hz [1, 2, 3, 0] dX10_become_6 rfl (by decide) rfl ?_
  refine z_aload_n hz dX10_become_7 0 rfl rfl ?_
  refine z_get (C := RX10) (T := TX10) (N := 29) hz in_X10 (zAt.mt 0 0 rfl rfl) rfl 0 (by decide) q1929 (fun _ h9 => h9) rfl dX10_become_8 ?_
  refine z_iload_n hz dX10_become_11 1 rfl rfl ?_
  refine z_iload_n hz dX10_become_12 2 rfl rfl ?_
  refine z_iast hz 1 0 rfl rfl rfl (by omega) (by decide) dX10_become_13 ?_
  refine z_bs (bs2 := [zO (ad 99) 10 (mFs ad iv), zI (G.2.2.1 0) (ad 0) 602 (upd g a v)]) rfl ?_
  refine z_iload_n hz dX10_become_14 3 rfl rfl ?_
  exact z_iret hQ hz hr hlk dX10_become_15 ⟨rfl, rfl⟩
set_option maxHeartbeats 400000 in
theorem mM_finding {G : zG} (ad : Nat → Nat) (iv er : Nat → Int32) (x : Int32) (k : Nat) (hx : (-1000000) - x = nI k) (hk : k < 6) : zMet G yX10_finding (ws_ yX10_finding cX10_finding 2 (some .int)) (zRm 0 0 0 0) [.ref (ad 99), .int x] [zO (ad 99) 10 (mFs ad iv), zI (G.2.2.1 0) (ad 4) 6 er] (fun v9 b9 => v9 = some (.int x) ∧ b9 = [zO (ad 99) 10 (mFs ad iv), zI (G.2.2.1 0) (ad 4) 6 (upd er k (er k + 1))]) := by
  refine zMet.of (by decide +kernel) (Nat.le_of_ble_eq_true rfl) ?_
  intro p e s m args below meth c A hz hA hr hlk hnm9 Q hQ
  refine z_lv (lv' := [(0, .ref (ad 99)), (1, .int x)]) [0, 1] rfl ?_
  refine z_aload_n hz dX10_finding_0 0 rfl rfl ?_
  refine z_get (C := RX10) (T := TX10) (N := 29) hz in_X10 (zAt.mt 0 0 rfl rfl) rfl 4 (by decide) q1933 (fun _ h9 => h9) rfl dX10_finding_1 ?_
  refine z_ldc hz q2036 dX10_finding_4 ?_
  refine z_iload_n hz dX10_finding_6 1 rfl rfl ?_
  refine z_isub hz dX10_finding_7 ?_
  refine z_top hx ?_
  refine z_dup2 hz dX10_finding_8 rfl rfl ?_
  refine z_iald hz (zAt.mt 1 0 rfl rfl) rfl (by omega) (by decide) dX10_finding_9 ?_
  refine z_iconst hz 1 dX10_finding_10 ki_1 ?_
  refine z_iadd hz dX10_finding_11 ?_
  refine z_iast hz 1 0 rfl rfl rfl (by omega) (by decide) dX10_finding_12 ?_
  refine z_bs (bs2 := [zO (ad 99) 10 (mFs ad iv), zI (G.2.2.1 0) (ad 4) 6 (upd er k ((er k) + 1))]) rfl ?_
  refine z_iload_n hz dX10_finding_13 1 rfl rfl ?_
  exact z_iret hQ hz hr hlk dX10_finding_14 ⟨rfl, rfl⟩
set_option maxHeartbeats 400000 in
theorem mM_man2 {G : zG} (ad : Nat → Nat) (iv g : Nat → Int32) (mi f : Nat) (hm : 36 + 5 * mi + f < 602) : zRd G yX10_man_2 (ws_ yX10_man_2 cX10_man_2 3 (some .int)) (zRm 0 0 0 0) [.ref (ad 99), .int (nI mi), .int (nI f)] [(ad 99, .inr (10, mFs ad iv)), (ad 0, .inl (G.2.2.1 0, 602, .inl g))] (fun v9 => v9 = some (.int (g (36 + 5 * mi + f)))) := by
  refine zRd.of (by decide +kernel) (Nat.le_of_ble_eq_true rfl) ?_
  intro p e s m args below meth c hz hP hr hlk Q hQ
  refine z_lv (lv' := [(0, .ref (ad 99)), (1, .int (nI mi)), (2, .int (nI f))]) [0, 1, 2] rfl ?_
  refine z_aload_n hz dX10_man_2_0 0 rfl rfl ?_
  refine z_get (C := RX10) (T := TX10) (N := 29) hz in_X10 (zAt.rd hP 0 rfl) rfl 0 (by decide) q1929 (fun _ h9 => h9) rfl dX10_man_2_1 ?_
  refine z_bipush hz 36 dX10_man_2_4 kb_36 ?_
  refine z_iconst hz 5 dX10_man_2_6 ki_5 ?_
  refine z_iload_n hz dX10_man_2_7 1 rfl rfl ?_
  refine z_imulN hz kn_5 rfl dX10_man_2_8 ?_
  refine z_iaddN hz kn_36 rfl dX10_man_2_9 ?_
  refine z_iload_n hz dX10_man_2_10 2 rfl rfl ?_
  refine z_iaddN hz rfl rfl dX10_man_2_11 ?_
  refine z_iald hz (zAt.rd hP 1 rfl) rfl (by omega) (by decide) dX10_man_2_12 ?_
  exact zr_iret hQ hz hr hlk dX10_man_2_13 rfl
set_option maxHeartbeats 400000 in
theorem mM_comes {G : zG} (ad : Nat → Nat) (iv g : Nat → Int32) (nm : Nat) (hnm : g 1 = nI nm) (h16 : nm < 16) (room cold knows : Int32) : zMet G yX10_comes (ws_ yX10_comes cX10_comes 5 none) (zRm 0 0 0 0) [.ref (ad 99), .int room, .int cold, .int knows] [zO (ad 99) 10 (mFs ad iv), zI (G.2.2.1 0) (ad 0) 602 g] (fun v9 b9 => v9 = none ∧ b9 = [zO (ad 99) 10 (mFs ad iv), zI (G.2.2.1 0) (ad 0) 602 (comesF g nm room cold knows)]) := by
  refine zMet.of (by decide +kernel) (Nat.le_of_ble_eq_true rfl) ?_
  intro p e s m args below meth c A hz hA hr hlk hnm9 Q hQ
  refine z_lv (lv' := [(0, .ref (ad 99)), (1, .int room), (2, .int cold), (3, .int knows)]) [0, 1, 2, 3] rfl ?_
  refine z_bipush hz 36 dX10_comes_0 kb_36 ?_
  refine z_iconst hz 5 dX10_comes_2 ki_5 ?_
  refine z_aload_n hz dX10_comes_3 0 rfl rfl ?_
  refine z_get (C := RX10) (T := TX10) (N := 29) hz in_X10 (zAt.mt 0 0 rfl rfl) rfl 0 (by decide) q1929 (fun _ h9 => h9) rfl dX10_comes_4 ?_
  refine z_iconst hz 1 dX10_comes_7 ki_1 ?_
  refine z_iald hz (zAt.mt 1 0 rfl rfl) kn_1 (by decide) (by decide) dX10_comes_8 ?_
  refine z_top hnm ?_
  refine z_imulN hz kn_5 rfl dX10_comes_9 ?_
  refine z_iaddN hz kn_36 rfl dX10_comes_10 ?_
  refine z_istore (lv' := [(0, .ref (ad 99)), (1, .int room), (2, .int cold), (3, .int knows), (4, .int (nI (36 + (5 * nm))))]) hz [1, 2, 3, 4, 0] dX10_comes_11 (by decide) rfl ?_
  refine z_aload_n hz dX10_comes_13 0 rfl rfl ?_
  refine z_get (C := RX10) (T := TX10) (N := 29) hz in_X10 (zAt.mt 0 0 rfl rfl) rfl 0 (by decide) q1929 (fun _ h9 => h9) rfl dX10_comes_14 ?_
  refine z_iload hz dX10_comes_17 4 rfl ?_
  refine z_iconst hz 0 dX10_comes_19 ki_0 ?_
  refine z_iaddN hz rfl kn_0 dX10_comes_20 ?_
  refine z_iload_n hz dX10_comes_21 1 rfl rfl ?_
  refine z_iast hz 1 0 rfl rfl rfl (by omega) (by decide) dX10_comes_22 ?_
  refine z_bs (bs2 := [zO (ad 99) 10 (mFs ad iv), zI (G.2.2.1 0) (ad 0) 602 (upd g (36 + (5 * nm)) room)]) rfl ?_
  refine z_aload_n hz dX10_comes_23 0 rfl rfl ?_
  refine z_get (C := RX10) (T := TX10) (N := 29) hz in_X10 (zAt.mt 0 0 rfl rfl) rfl 0 (by decide) q1929 (fun _ h9 => h9) rfl dX10_comes_24 ?_
  refine z_iload hz dX10_comes_27 4 rfl ?_
  refine z_iconst hz 1 dX10_comes_29 ki_1 ?_
  refine z_iaddN hz rfl kn_1 dX10_comes_30 ?_
  refine z_iconst hz 1 dX10_comes_31 ki_1 ?_
  refine z_iast hz 1 0 rfl rfl rfl (by omega) (by decide) dX10_comes_32 ?_
  refine z_bs (bs2 := [zO (ad 99) 10 (mFs ad iv), zI (G.2.2.1 0) (ad 0) 602 (upd (upd g (36 + (5 * nm)) room) ((36 + (5 * nm)) + 1) 1)]) rfl ?_
  refine z_aload_n hz dX10_comes_33 0 rfl rfl ?_
  refine z_get (C := RX10) (T := TX10) (N := 29) hz in_X10 (zAt.mt 0 0 rfl rfl) rfl 0 (by decide) q1929 (fun _ h9 => h9) rfl dX10_comes_34 ?_
  refine z_iload hz dX10_comes_37 4 rfl ?_
  refine z_iconst hz 2 dX10_comes_39 ki_2 ?_
  refine z_iaddN hz rfl kn_2 dX10_comes_40 ?_
  refine z_iload_n hz dX10_comes_41 2 rfl rfl ?_
  refine z_iast hz 1 0 rfl rfl rfl (by omega) (by decide) dX10_comes_42 ?_
  refine z_bs (bs2 := [zO (ad 99) 10 (mFs ad iv), zI (G.2.2.1 0) (ad 0) 602 (upd (upd (upd g (36 + (5 * nm)) room) ((36 + (5 * nm)) + 1) 1) ((36 + (5 * nm)) + 2) cold)]) rfl ?_
  refine z_aload_n hz dX10_comes_43 0 rfl rfl ?_
  refine z_get (C := RX10) (T := TX10) (N := 29) hz in_X10 (zAt.mt 0 0 rfl rfl) rfl 0 (by decide) q1929 (fun _ h9 => h9) rfl dX10_comes_44 ?_
  refine z_iload hz dX10_comes_47 4 rfl ?_
  refine z_iconst hz 3 dX10_comes_49 ki_3 ?_
  refine z_iaddN hz rfl kn_3 dX10_comes_50 ?_
  refine z_iload_n hz dX10_comes_51 3 rfl rfl ?_
  refine z_iast hz 1 0 rfl rfl rfl (by omega) (by decide) dX10_comes_52 ?_
  refine z_bs (bs2 := [zO (ad 99) 10 (mFs ad iv), zI (G.2.2.1 0) (ad 0) 602 (upd (upd (upd (upd g (36 + (5 * nm)) room) ((36 + (5 * nm)) + 1) 1) ((36 + (5 * nm)) + 2) cold) ((36 + (5 * nm)) + 3) knows)]) rfl ?_
  refine z_aload_n hz dX10_comes_53 0 rfl rfl ?_
  refine z_get (C := RX10) (T := TX10) (N := 29) hz in_X10 (zAt.mt 0 0 rfl rfl) rfl 0 (by decide) q1929 (fun _ h9 => h9) rfl dX10_comes_54 ?_
  refine z_iload hz dX10_comes_57 4 rfl ?_
  refine z_iconst hz 4 dX10_comes_59 ki_4 ?_
  refine z_iaddN hz rfl kn_4 dX10_comes_60 ?_
  refine z_sipush hz 2399 dX10_comes_61 ks_2399 ?_
  refine z_iast hz 1 0 rfl rfl rfl (by omega) (by decide) dX10_comes_64 ?_
  refine z_bs (bs2 := [zO (ad 99) 10 (mFs ad iv), zI (G.2.2.1 0) (ad 0) 602 (upd (upd (upd (upd (upd g (36 + (5 * nm)) room) ((36 + (5 * nm)) + 1) 1) ((36 + (5 * nm)) + 2) cold) ((36 + (5 * nm)) + 3) knows) ((36 + (5 * nm)) + 4) 2399)]) rfl ?_
  refine z_aload_n hz dX10_comes_65 0 rfl rfl ?_
  refine z_get (C := RX10) (T := TX10) (N := 29) hz in_X10 (zAt.mt 0 0 rfl rfl) rfl 0 (by decide) q1929 (fun _ h9 => h9) rfl dX10_comes_66 ?_
  refine z_iconst hz 1 dX10_comes_69 ki_1 ?_
  refine z_dup2 hz dX10_comes_70 rfl rfl ?_
  refine z_iald hz (zAt.mt 1 0 rfl rfl) kn_1 (by decide) (by decide) dX10_comes_71 ?_
  refine z_top (ld_ne (by omega) (ld_ne (by omega) (ld_ne (by omega) (ld_ne (by omega) (ld_ne (by omega) hnm))))) ?_
  refine z_iconst hz 1 dX10_comes_72 ki_1 ?_
  refine z_iaddN hz rfl kn_1 dX10_comes_73 ?_
  refine z_iast hz 1 0 rfl rfl kn_1 (by decide) (by decide) dX10_comes_74 ?_
  refine z_bs (bs2 := [zO (ad 99) 10 (mFs ad iv), zI (G.2.2.1 0) (ad 0) 602 (upd (upd (upd (upd (upd (upd g (36 + (5 * nm)) room) ((36 + (5 * nm)) + 1) 1) ((36 + (5 * nm)) + 2) cold) ((36 + (5 * nm)) + 3) knows) ((36 + (5 * nm)) + 4) 2399) 1 (nI (nm + 1)))]) rfl ?_
  exact z_vret hQ hz hr hlk dX10_comes_75 ⟨rfl, rfl⟩
set_option maxHeartbeats 400000 in
theorem mM_boat {G : zG} (ad : Nat → Nat) (iv g er : Nat → Int32) (what v : Int32) : zMet G yX10_boat (ws_ yX10_boat cX10_boat 4 (some .int)) (zRm 2 0 0 60) [.ref (ad 99), .int what, .int v] [zO (ad 99) 10 (mFs ad iv), zI (G.2.2.1 0) (ad 0) 602 g, zI (G.2.2.1 0) (ad 4) 6 er] (fun v9 b9 => v9 = some (.int (rOf (sBoat g what v))) ∧ b9 = [zO (ad 99) 10 (mFs ad iv), zI (G.2.2.1 0) (ad 0) 602 ((sBoat g what v).2.2), zI (G.2.2.1 0) (ad 4) 6 (eOf er (sBoat g what v))]) := by
  refine zMet.of (by decide +kernel) (Nat.le_of_ble_eq_true rfl) ?_
  intro p e s m args below meth c A hz hA hr hlk hnm9 Q hQ
  refine z_lv (lv' := [(0, .ref (ad 99)), (1, .int what), (2, .int v)]) [0, 1, 2] rfl ?_
  refine z_iload_n hz dX10_boat_0 1 rfl rfl ?_
  refine z_if_ne hz 15 dX10_boat_1 (by decide) (fun c1 => ?_) (fun c1 => ?_)
  · refine z_iload_n hz dX10_boat_15 1 rfl rfl ?_
    refine z_iconst hz 1 dX10_boat_16 ki_1 ?_
    refine z_icmp_ne hz 34 dX10_boat_17 (by decide) (fun c2 => ?_) (fun c2 => ?_)
    · refine z_iconst hz 0 dX10_boat_34 ki_0 ?_
      refine z_istore_n (lv' := [(0, .ref (ad 99)), (1, .int what), (2, .int v), (3, .int 0)]) hz [1, 2, 3, 0] dX10_boat_35 rfl (by decide) rfl ?_
      refine z_iload_n hz dX10_boat_36 3 rfl rfl ?_
      refine z_if_eqT hz 52 dX10_boat_37 (by decide) (by decide) ?_
      refine z_aload_n hz dX10_boat_52 0 rfl rfl ?_
      refine z_ldc hz q2031 dX10_boat_53 ?_
      refine z_callD (bs2 := [zO (ad 99) 10 (mFs ad iv), zI (G.2.2.1 0) (ad 0) 602 g, zI (G.2.2.1 0) (ad 4) 6 (upd er 1 (er 1 + 1))]) (st2 := [.int (-1000001)]) hz hA (zk_V hz (rm := (zRm 0 0 0 0)) (As := [.int (-1000001)]) (rest := []) 1 q2032 q2034 qs35 q95 q2035 (by decide +kernel) ⟨Nat.le_of_ble_eq_true rfl, Nat.le_of_ble_eq_true rfl⟩ ⟨Nat.le_of_ble_eq_true rfl, Nat.le_of_ble_eq_true rfl⟩ (zRecv (q := (RX10, TX10, 29)) hz (zAt.mt 0 0 rfl rfl) rfl) rfl rfl (Nat.le_of_ble_eq_true rfl) dX10_boat_55) (mM_finding ad iv er (-1000001) 1 (by decide) (by decide)) [0, 2] rfl (by decide) rfl rfl ?_
      exact z_iret hQ hz hr hlk dX10_boat_58 (by
        have e9 : sBoat g what v = (1, 0, g) := by simp [sBoat, inR, nI_clamp, c1, c2]
        rw [e9]; exact ⟨congrArg (fun z => some (Value.int z)) rE1, rfl⟩)
    · subst c2
      refine z_iload_n hz dX10_boat_20 2 rfl rfl ?_
      refine z_iconst hz 1 dX10_boat_21 ki_1 ?_
      refine z_ldc hz q2026 dX10_boat_22 ?_
      refine z_callRD (st2 := [.int (zB (inR v 1 99999))]) hz zKp.mt (zk_S hz (rm := (zRm 0 0 0 0)) (As := [.int v, .int 1, .int 99999]) (rest := []) 3 q2023 q2024 q95 q2025 (by decide +kernel) ⟨Nat.le_of_ble_eq_true rfl, Nat.le_of_ble_eq_true rfl⟩ ⟨Nat.le_of_ble_eq_true rfl, Nat.le_of_ble_eq_true rfl⟩ rfl rfl (Nat.le_of_ble_eq_true rfl) dX10_boat_24) (mM_within v 1 99999) (fun _ _ _ => zP0) rfl ?_
      refine z_ifB_eq hz 34 dX10_boat_27 (by decide) (fun c3 => ?_) (fun c3 => ?_)
      · refine z_iconst hz 0 dX10_boat_34 ki_0 ?_
        refine z_istore_n (lv' := [(0, .ref (ad 99)), (1, .int 1), (2, .int v), (3, .int 0)]) hz [1, 2, 3, 0] dX10_boat_35 rfl (by decide) rfl ?_
        refine z_iload_n hz dX10_boat_36 3 rfl rfl ?_
        refine z_if_eqT hz 52 dX10_boat_37 (by decide) (by decide) ?_
        refine z_aload_n hz dX10_boat_52 0 rfl rfl ?_
        refine z_ldc hz q2031 dX10_boat_53 ?_
        refine z_callD (bs2 := [zO (ad 99) 10 (mFs ad iv), zI (G.2.2.1 0) (ad 0) 602 g, zI (G.2.2.1 0) (ad 4) 6 (upd er 1 (er 1 + 1))]) (st2 := [.int (-1000001)]) hz hA (zk_V hz (rm := (zRm 0 0 0 0)) (As := [.int (-1000001)]) (rest := []) 1 q2032 q2034 qs35 q95 q2035 (by decide +kernel) ⟨Nat.le_of_ble_eq_true rfl, Nat.le_of_ble_eq_true rfl⟩ ⟨Nat.le_of_ble_eq_true rfl, Nat.le_of_ble_eq_true rfl⟩ (zRecv (q := (RX10, TX10, 29)) hz (zAt.mt 0 0 rfl rfl) rfl) rfl rfl (Nat.le_of_ble_eq_true rfl) dX10_boat_55) (mM_finding ad iv er (-1000001) 1 (by decide) (by decide)) [0, 2] rfl (by decide) rfl rfl ?_
        exact z_iret hQ hz hr hlk dX10_boat_58 (by
          have e9 : sBoat g 1 v = (1, 0, g) := by simp [sBoat, inR, nI_clamp, c1, c3]
          rw [e9]; exact ⟨congrArg (fun z => some (Value.int z)) rE1, rfl⟩)
      · refine z_iconst hz 1 dX10_boat_30 ki_1 ?_
        refine z_goto hz 35 dX10_boat_31 (by decide) ?_
        refine z_istore_n (lv' := [(0, .ref (ad 99)), (1, .int 1), (2, .int v), (3, .int 1)]) hz [1, 2, 3, 0] dX10_boat_35 rfl (by decide) rfl ?_
        refine z_iload_n hz dX10_boat_36 3 rfl rfl ?_
        refine z_if_eqF hz 52 dX10_boat_37 (by decide) (by decide) ?_
        refine z_aload_n hz dX10_boat_40 0 rfl rfl ?_
        refine z_bipush hz 9 dX10_boat_41 kb_9 ?_
        refine z_iload_n hz dX10_boat_43 1 rfl rfl ?_
        refine z_iadd hz dX10_boat_44 ?_
        refine z_top (y := 10) (by decide) ?_
        refine z_iload_n hz dX10_boat_45 2 rfl rfl ?_
        refine z_callD (bs2 := [zO (ad 99) 10 (mFs ad iv), zI (G.2.2.1 0) (ad 0) 602 (upd g 10 v), zI (G.2.2.1 0) (ad 4) 6 er]) (st2 := [.int (g 10)]) hz hA (zk_V hz (rm := (zRm 0 0 0 0)) (As := [.int 10, .int v]) (rest := []) 2 q2027 q2029 qs34 q95 q2030 (by decide +kernel) ⟨Nat.le_of_ble_eq_true rfl, Nat.le_of_ble_eq_true rfl⟩ ⟨Nat.le_of_ble_eq_true rfl, Nat.le_of_ble_eq_true rfl⟩ (zRecv (q := (RX10, TX10, 29)) hz (zAt.mt 0 0 rfl rfl) rfl) rfl rfl (Nat.le_of_ble_eq_true rfl) dX10_boat_46) (mM_become ad iv g 10 v (by omega)) [0, 1] rfl (by decide) rfl rfl ?_
        refine z_goto hz 58 dX10_boat_49 (by decide) ?_
        exact z_iret hQ hz hr hlk dX10_boat_58 (by
          have e9 : sBoat g 1 v = (0, g 10, upd g 10 v) := by simp [sBoat, inR, nI_clamp, c1, c3]
          rw [e9]; exact ⟨rfl, rfl⟩)
  · subst c1
    refine z_iload_n hz dX10_boat_4 2 rfl rfl ?_
    refine z_iconst hz 1 dX10_boat_5 ki_1 ?_
    refine z_sipush hz 300 dX10_boat_6 ks_300 ?_
    refine z_callRD (st2 := [.int (zB (inR v 1 300))]) hz zKp.mt (zk_S hz (rm := (zRm 0 0 0 0)) (As := [.int v, .int 1, .int 300]) (rest := []) 3 q2023 q2024 q95 q2025 (by decide +kernel) ⟨Nat.le_of_ble_eq_true rfl, Nat.le_of_ble_eq_true rfl⟩ ⟨Nat.le_of_ble_eq_true rfl, Nat.le_of_ble_eq_true rfl⟩ rfl rfl (Nat.le_of_ble_eq_true rfl) dX10_boat_9) (mM_within v 1 300) (fun _ _ _ => zP0) rfl ?_
    refine z_goto hz 35 dX10_boat_12 (by decide) ?_
    refine z_istore_n (lv' := [(0, .ref (ad 99)), (1, .int 0), (2, .int v), (3, .int (zB (inR v 1 300)))]) hz [1, 2, 3, 0] dX10_boat_35 rfl (by decide) rfl ?_
    refine z_iload_n hz dX10_boat_36 3 rfl rfl ?_
    refine z_ifB_eq hz 52 dX10_boat_37 (by decide) (fun c4 => ?_) (fun c4 => ?_)
    · refine z_aload_n hz dX10_boat_52 0 rfl rfl ?_
      refine z_ldc hz q2031 dX10_boat_53 ?_
      refine z_callD (bs2 := [zO (ad 99) 10 (mFs ad iv), zI (G.2.2.1 0) (ad 0) 602 g, zI (G.2.2.1 0) (ad 4) 6 (upd er 1 (er 1 + 1))]) (st2 := [.int (-1000001)]) hz hA (zk_V hz (rm := (zRm 0 0 0 0)) (As := [.int (-1000001)]) (rest := []) 1 q2032 q2034 qs35 q95 q2035 (by decide +kernel) ⟨Nat.le_of_ble_eq_true rfl, Nat.le_of_ble_eq_true rfl⟩ ⟨Nat.le_of_ble_eq_true rfl, Nat.le_of_ble_eq_true rfl⟩ (zRecv (q := (RX10, TX10, 29)) hz (zAt.mt 0 0 rfl rfl) rfl) rfl rfl (Nat.le_of_ble_eq_true rfl) dX10_boat_55) (mM_finding ad iv er (-1000001) 1 (by decide) (by decide)) [0, 2] rfl (by decide) rfl rfl ?_
      exact z_iret hQ hz hr hlk dX10_boat_58 (by
        have e9 : sBoat g 0 v = (1, 0, g) := by simp [sBoat, inR, nI_clamp, c4]
        rw [e9]; exact ⟨congrArg (fun z => some (Value.int z)) rE1, rfl⟩)
    · refine z_aload_n hz dX10_boat_40 0 rfl rfl ?_
      refine z_bipush hz 9 dX10_boat_41 kb_9 ?_
      refine z_iload_n hz dX10_boat_43 1 rfl rfl ?_
      refine z_iadd hz dX10_boat_44 ?_
      refine z_top (y := 9) (by decide) ?_
      refine z_iload_n hz dX10_boat_45 2 rfl rfl ?_
      refine z_callD (bs2 := [zO (ad 99) 10 (mFs ad iv), zI (G.2.2.1 0) (ad 0) 602 (upd g 9 v), zI (G.2.2.1 0) (ad 4) 6 er]) (st2 := [.int (g 9)]) hz hA (zk_V hz (rm := (zRm 0 0 0 0)) (As := [.int 9, .int v]) (rest := []) 2 q2027 q2029 qs34 q95 q2030 (by decide +kernel) ⟨Nat.le_of_ble_eq_true rfl, Nat.le_of_ble_eq_true rfl⟩ ⟨Nat.le_of_ble_eq_true rfl, Nat.le_of_ble_eq_true rfl⟩ (zRecv (q := (RX10, TX10, 29)) hz (zAt.mt 0 0 rfl rfl) rfl) rfl rfl (Nat.le_of_ble_eq_true rfl) dX10_boat_46) (mM_become ad iv g 9 v (by omega)) [0, 1] rfl (by decide) rfl rfl ?_
      refine z_goto hz 58 dX10_boat_49 (by decide) ?_
      exact z_iret hQ hz hr hlk dX10_boat_58 (by
        have e9 : sBoat g 0 v = (0, g 9, upd g 9 v) := by simp [sBoat, inR, nI_clamp, c4]
        rw [e9]; exact ⟨rfl, rfl⟩)
set_option maxHeartbeats 400000 in
theorem mM_man {G : zG} (ad : Nat → Nat) (iv g er : Nat → Int32) (room cold knows : Int32) (nm : Nat) (hnm : g 1 = nI nm) (h16 : nm ≤ 16) : zMet G yX10_man (ws_ yX10_man cX10_man 4 (some .int)) (zRm 2 0 0 60) [.ref (ad 99), .int room, .int cold, .int knows] [zO (ad 99) 10 (mFs ad iv), zI (G.2.2.1 0) (ad 0) 602 g, zI (G.2.2.1 0) (ad 4) 6 er] (fun v9 b9 => v9 = some (.int (rOf (sMan g room cold knows))) ∧ b9 = [zO (ad 99) 10 (mFs ad iv), zI (G.2.2.1 0) (ad 0) 602 ((sMan g room cold knows).2.2), zI (G.2.2.1 0) (ad 4) 6 (eOf er (sMan g room cold knows))]) := by
  refine zMet.of (by decide +kernel) (Nat.le_of_ble_eq_true rfl) ?_
  intro p e s m args below meth c A hz hA hr hlk hnm9 Q hQ
  refine z_lv (lv' := [(0, .ref (ad 99)), (1, .int room), (2, .int cold), (3, .int knows)]) [0, 1, 2, 3] rfl ?_
  have tnm : tN (nI nm) = nm := nI_clamp (by omega)
  refine z_iload_n hz dX10_man_0 1 rfl rfl ?_
  refine z_callRD (st2 := [.int (zB (inR room 0 7))]) hz zKp.mt (zk_S hz (rm := (zRm 1 0 0 30)) (As := [.int room]) (rest := []) 1 q2041 q2042 q95 q2043 (by decide +kernel) ⟨Nat.le_of_ble_eq_true rfl, Nat.le_of_ble_eq_true rfl⟩ ⟨Nat.le_of_ble_eq_true rfl, Nat.le_of_ble_eq_true rfl⟩ rfl rfl (Nat.le_of_ble_eq_true rfl) dX10_man_1) (mM_isRoom room) (fun _ _ _ => zP0) rfl ?_
  refine z_ifB_eq hz 26 dX10_man_4 (by decide) (fun c1 => ?_) (fun c1 => ?_)
  · refine z_aload_n hz dX10_man_26 0 rfl rfl ?_
    refine z_ldc hz q2031 dX10_man_27 ?_
    refine z_callD (bs2 := [zO (ad 99) 10 (mFs ad iv), zI (G.2.2.1 0) (ad 0) 602 g, zI (G.2.2.1 0) (ad 4) 6 (upd er 1 (er 1 + 1))]) (st2 := [.int (-1000001)]) hz hA (zk_V hz (rm := (zRm 0 0 0 0)) (As := [.int (-1000001)]) (rest := []) 1 q2032 q2034 qs35 q95 q2035 (by decide +kernel) ⟨Nat.le_of_ble_eq_true rfl, Nat.le_of_ble_eq_true rfl⟩ ⟨Nat.le_of_ble_eq_true rfl, Nat.le_of_ble_eq_true rfl⟩ (zRecv (q := (RX10, TX10, 29)) hz (zAt.mt 0 0 rfl rfl) rfl) rfl rfl (Nat.le_of_ble_eq_true rfl) dX10_man_29) (mM_finding ad iv er (-1000001) 1 (by decide) (by decide)) [0, 2] rfl (by decide) rfl rfl ?_
    exact z_iret hQ hz hr hlk dX10_man_32 (by
      have e9 : sMan g room cold knows = (1, 0, g) := by simp [sMan, inR, nI_clamp, c1, hnm, tnm]
      rw [e9]; exact ⟨congrArg (fun z => some (Value.int z)) rE1, rfl⟩)
  · refine z_iload_n hz dX10_man_7 2 rfl rfl ?_
    refine z_iconst hz 0 dX10_man_8 ki_0 ?_
    refine z_bipush hz 9 dX10_man_9 kb_9 ?_
    refine z_callRD (st2 := [.int (zB (inR cold 0 9))]) hz zKp.mt (zk_S hz (rm := (zRm 0 0 0 0)) (As := [.int cold, .int 0, .int 9]) (rest := []) 3 q2023 q2024 q95 q2025 (by decide +kernel) ⟨Nat.le_of_ble_eq_true rfl, Nat.le_of_ble_eq_true rfl⟩ ⟨Nat.le_of_ble_eq_true rfl, Nat.le_of_ble_eq_true rfl⟩ rfl rfl (Nat.le_of_ble_eq_true rfl) dX10_man_11) (mM_within cold 0 9) (fun _ _ _ => zP0) rfl ?_
    refine z_ifB_eq hz 26 dX10_man_14 (by decide) (fun c2 => ?_) (fun c2 => ?_)
    · refine z_aload_n hz dX10_man_26 0 rfl rfl ?_
      refine z_ldc hz q2031 dX10_man_27 ?_
      refine z_callD (bs2 := [zO (ad 99) 10 (mFs ad iv), zI (G.2.2.1 0) (ad 0) 602 g, zI (G.2.2.1 0) (ad 4) 6 (upd er 1 (er 1 + 1))]) (st2 := [.int (-1000001)]) hz hA (zk_V hz (rm := (zRm 0 0 0 0)) (As := [.int (-1000001)]) (rest := []) 1 q2032 q2034 qs35 q95 q2035 (by decide +kernel) ⟨Nat.le_of_ble_eq_true rfl, Nat.le_of_ble_eq_true rfl⟩ ⟨Nat.le_of_ble_eq_true rfl, Nat.le_of_ble_eq_true rfl⟩ (zRecv (q := (RX10, TX10, 29)) hz (zAt.mt 0 0 rfl rfl) rfl) rfl rfl (Nat.le_of_ble_eq_true rfl) dX10_man_29) (mM_finding ad iv er (-1000001) 1 (by decide) (by decide)) [0, 2] rfl (by decide) rfl rfl ?_
      exact z_iret hQ hz hr hlk dX10_man_32 (by
        have e9 : sMan g room cold knows = (1, 0, g) := by simp [sMan, inR, nI_clamp, c1, c2, hnm, tnm]
        rw [e9]; exact ⟨congrArg (fun z => some (Value.int z)) rE1, rfl⟩)
    · refine z_iload_n hz dX10_man_17 3 rfl rfl ?_
      refine z_iconst hz 0 dX10_man_18 ki_0 ?_
      refine z_iconst hz 1 dX10_man_19 ki_1 ?_
      refine z_callRD (st2 := [.int (zB (inR knows 0 1))]) hz zKp.mt (zk_S hz (rm := (zRm 0 0 0 0)) (As := [.int knows, .int 0, .int 1]) (rest := []) 3 q2023 q2024 q95 q2025 (by decide +kernel) ⟨Nat.le_of_ble_eq_true rfl, Nat.le_of_ble_eq_true rfl⟩ ⟨Nat.le_of_ble_eq_true rfl, Nat.le_of_ble_eq_true rfl⟩ rfl rfl (Nat.le_of_ble_eq_true rfl) dX10_man_20) (mM_within knows 0 1) (fun _ _ _ => zP0) rfl ?_
      refine z_ifB_ne hz 33 dX10_man_23 (by decide) (fun c3 => ?_) (fun c3 => ?_)
      · refine z_aload_n hz dX10_man_33 0 rfl rfl ?_
        refine z_get (C := RX10) (T := TX10) (N := 29) hz in_X10 (zAt.mt 0 0 rfl rfl) rfl 0 (by decide) q1929 (fun _ h9 => h9) rfl dX10_man_34 ?_
        refine z_iconst hz 1 dX10_man_37 ki_1 ?_
        refine z_iald hz (zAt.mt 1 0 rfl rfl) kn_1 (by decide) (by decide) dX10_man_38 ?_
        refine z_top hnm ?_
        refine z_bipush hz 16 dX10_man_39 kb_16 ?_
        refine z_icmpN_ne hz rfl kn_16 (by omega) (by decide) 51 dX10_man_41 (by decide) (fun c4 => ?_) (fun c4 => ?_)
        · refine z_aload_n hz dX10_man_51 0 rfl rfl ?_
          refine z_iload_n hz dX10_man_52 1 rfl rfl ?_
          refine z_iload_n hz dX10_man_53 2 rfl rfl ?_
          refine z_iload_n hz dX10_man_54 3 rfl rfl ?_
          refine z_callD (bs2 := [zO (ad 99) 10 (mFs ad iv), zI (G.2.2.1 0) (ad 0) 602 (comesF g nm room cold knows), zI (G.2.2.1 0) (ad 4) 6 er]) (st2 := []) hz hA (zk_V hz (rm := (zRm 0 0 0 0)) (As := [.int room, .int cold, .int knows]) (rest := []) 3 q2045 q2047 qs36 q95 q2048 (by decide +kernel) ⟨Nat.le_of_ble_eq_true rfl, Nat.le_of_ble_eq_true rfl⟩ ⟨Nat.le_of_ble_eq_true rfl, Nat.le_of_ble_eq_true rfl⟩ (zRecv (q := (RX10, TX10, 29)) hz (zAt.mt 0 0 rfl rfl) rfl) rfl rfl (Nat.le_of_ble_eq_true rfl) dX10_man_55) (mM_comes ad iv g nm hnm (by omega) room cold knows) [0, 1] rfl (by decide) rfl rfl ?_
          refine z_aload_n hz dX10_man_58 0 rfl rfl ?_
          refine z_get (C := RX10) (T := TX10) (N := 29) hz in_X10 (zAt.mt 0 0 rfl rfl) rfl 0 (by decide) q1929 (fun _ h9 => h9) rfl dX10_man_59 ?_
          refine z_iconst hz 1 dX10_man_62 ki_1 ?_
          refine z_iald hz (zAt.mt 1 0 rfl rfl) kn_1 (by decide) (by decide) dX10_man_63 ?_
          refine z_top ld_self ?_
          refine z_iconst hz 1 dX10_man_64 ki_1 ?_
          refine z_isubN hz rfl kn_1 (by omega) dX10_man_65 ?_
          exact z_iret hQ hz hr hlk dX10_man_66 (by
            have e9 : sMan g room cold knows = (0, nI ((nm + 1) - 1), comesF g nm room cold knows) := by simp [sMan, inR, nI_clamp, c1, c2, c3, c4, hnm, tnm]
            rw [e9]; exact ⟨rfl, rfl⟩)
        · refine z_aload_n hz dX10_man_44 0 rfl rfl ?_
          refine z_ldc hz q2044 dX10_man_45 ?_
          refine z_callD (bs2 := [zO (ad 99) 10 (mFs ad iv), zI (G.2.2.1 0) (ad 0) 602 g, zI (G.2.2.1 0) (ad 4) 6 (upd er 4 (er 4 + 1))]) (st2 := [.int (-1000004)]) hz hA (zk_V hz (rm := (zRm 0 0 0 0)) (As := [.int (-1000004)]) (rest := []) 1 q2032 q2034 qs35 q95 q2035 (by decide +kernel) ⟨Nat.le_of_ble_eq_true rfl, Nat.le_of_ble_eq_true rfl⟩ ⟨Nat.le_of_ble_eq_true rfl, Nat.le_of_ble_eq_true rfl⟩ (zRecv (q := (RX10, TX10, 29)) hz (zAt.mt 0 0 rfl rfl) rfl) rfl rfl (Nat.le_of_ble_eq_true rfl) dX10_man_47) (mM_finding ad iv er (-1000004) 4 (by decide) (by decide)) [0, 2] rfl (by decide) rfl rfl ?_
          exact z_iret hQ hz hr hlk dX10_man_50 (by
            have e9 : sMan g room cold knows = (4, 0, g) := by simp [sMan, inR, nI_clamp, c1, c2, c3, c4, hnm, tnm]
            rw [e9]; exact ⟨congrArg (fun z => some (Value.int z)) rE4, rfl⟩)
      · refine z_aload_n hz dX10_man_26 0 rfl rfl ?_
        refine z_ldc hz q2031 dX10_man_27 ?_
        refine z_callD (bs2 := [zO (ad 99) 10 (mFs ad iv), zI (G.2.2.1 0) (ad 0) 602 g, zI (G.2.2.1 0) (ad 4) 6 (upd er 1 (er 1 + 1))]) (st2 := [.int (-1000001)]) hz hA (zk_V hz (rm := (zRm 0 0 0 0)) (As := [.int (-1000001)]) (rest := []) 1 q2032 q2034 qs35 q95 q2035 (by decide +kernel) ⟨Nat.le_of_ble_eq_true rfl, Nat.le_of_ble_eq_true rfl⟩ ⟨Nat.le_of_ble_eq_true rfl, Nat.le_of_ble_eq_true rfl⟩ (zRecv (q := (RX10, TX10, 29)) hz (zAt.mt 0 0 rfl rfl) rfl) rfl rfl (Nat.le_of_ble_eq_true rfl) dX10_man_29) (mM_finding ad iv er (-1000001) 1 (by decide) (by decide)) [0, 2] rfl (by decide) rfl rfl ?_
        exact z_iret hQ hz hr hlk dX10_man_32 (by
          have e9 : sMan g room cold knows = (1, 0, g) := by simp [sMan, inR, nI_clamp, c1, c2, c3, hnm, tnm]
          rw [e9]; exact ⟨congrArg (fun z => some (Value.int z)) rE1, rfl⟩)
set_option maxHeartbeats 400000 in
theorem mM_of {G : zG} (ad : Nat → Nat) (iv g er : Nat → Int32) (man what : Int32) (nm : Nat) (hnm : g 1 = nI nm) (h16 : nm ≤ 16) : zMet G yX10_of (ws_ yX10_of cX10_of 3 (some .int)) (zRm 2 0 0 60) [.ref (ad 99), .int man, .int what] [zO (ad 99) 10 (mFs ad iv), zI (G.2.2.1 0) (ad 0) 602 g, zI (G.2.2.1 0) (ad 4) 6 er] (fun v9 b9 => v9 = some (.int (rOf (sOf g man what))) ∧ b9 = [zO (ad 99) 10 (mFs ad iv), zI (G.2.2.1 0) (ad 0) 602 ((sOf g man what).2.2), zI (G.2.2.1 0) (ad 4) 6 (eOf er (sOf g man what))]) := by
  refine zMet.of (by decide +kernel) (Nat.le_of_ble_eq_true rfl) ?_
  intro p e s m args below meth c A hz hA hr hlk hnm9 Q hQ
  refine z_lv (lv' := [(0, .ref (ad 99)), (1, .int man), (2, .int what)]) [0, 1, 2] rfl ?_
  refine z_aload_n hz dX10_of_0 0 rfl rfl ?_
  refine z_iload_n hz dX10_of_1 1 rfl rfl ?_
  refine z_iconst hz 1 dX10_of_2 ki_1 ?_
  refine z_callRD (st2 := [.int (zB (inR man 0 (g 1 - 1)))]) hz zKp.mt (zk_V hz (rm := (zRm 1 0 0 30)) (As := [.int man, .int 1]) (rest := []) 2 q2053 q2055 qs37 q95 q2056 (by decide +kernel) ⟨Nat.le_of_ble_eq_true rfl, Nat.le_of_ble_eq_true rfl⟩ ⟨Nat.le_of_ble_eq_true rfl, Nat.le_of_ble_eq_true rfl⟩ (zRecv (q := (RX10, TX10, 29)) hz (zAt.mt 0 0 rfl rfl) rfl) rfl rfl (Nat.le_of_ble_eq_true rfl) dX10_of_3) (mM_is ad iv g man 1 (by decide)) (fun H9 L9 h9 => (zPc (zAt.mt 0 0 rfl rfl) h9 (zPc (zAt.mt 1 0 rfl rfl) h9 zP0))) rfl ?_
  refine z_ifB_eq hz 27 dX10_of_6 (by decide) (fun c1 => ?_) (fun c1 => ?_)
  · refine z_aload_n hz dX10_of_27 0 rfl rfl ?_
    refine z_ldc hz q2031 dX10_of_28 ?_
    refine z_callD (bs2 := [zO (ad 99) 10 (mFs ad iv), zI (G.2.2.1 0) (ad 0) 602 g, zI (G.2.2.1 0) (ad 4) 6 (upd er 1 (er 1 + 1))]) (st2 := [.int (-1000001)]) hz hA (zk_V hz (rm := (zRm 0 0 0 0)) (As := [.int (-1000001)]) (rest := []) 1 q2032 q2034 qs35 q95 q2035 (by decide +kernel) ⟨Nat.le_of_ble_eq_true rfl, Nat.le_of_ble_eq_true rfl⟩ ⟨Nat.le_of_ble_eq_true rfl, Nat.le_of_ble_eq_true rfl⟩ (zRecv (q := (RX10, TX10, 29)) hz (zAt.mt 0 0 rfl rfl) rfl) rfl rfl (Nat.le_of_ble_eq_true rfl) dX10_of_30) (mM_finding ad iv er (-1000001) 1 (by decide) (by decide)) [0, 2] rfl (by decide) rfl rfl ?_
    exact z_iret hQ hz hr hlk dX10_of_33 (by
      have e9 : sOf g man what = (1, 0, g) := by simp [sOf, inR, nI_clamp, c1]
      rw [e9]; exact ⟨congrArg (fun z => some (Value.int z)) rE1, rfl⟩)
  · obtain ⟨j, j_lt, rfl⟩ := is_nat hnm (by omega) c1
    have t_j : tN (nI j) = j := nI_clamp (by omega)
    refine z_iload_n hz dX10_of_9 2 rfl rfl ?_
    refine z_iconst hz 0 dX10_of_10 ki_0 ?_
    refine z_iconst hz 4 dX10_of_11 ki_4 ?_
    refine z_callRD (st2 := [.int (zB (inR what 0 4))]) hz zKp.mt (zk_S hz (rm := (zRm 0 0 0 0)) (As := [.int what, .int 0, .int 4]) (rest := []) 3 q2023 q2024 q95 q2025 (by decide +kernel) ⟨Nat.le_of_ble_eq_true rfl, Nat.le_of_ble_eq_true rfl⟩ ⟨Nat.le_of_ble_eq_true rfl, Nat.le_of_ble_eq_true rfl⟩ rfl rfl (Nat.le_of_ble_eq_true rfl) dX10_of_12) (mM_within what 0 4) (fun _ _ _ => zP0) rfl ?_
    refine z_ifB_eq hz 27 dX10_of_15 (by decide) (fun c2 => ?_) (fun c2 => ?_)
    · refine z_aload_n hz dX10_of_27 0 rfl rfl ?_
      refine z_ldc hz q2031 dX10_of_28 ?_
      refine z_callD (bs2 := [zO (ad 99) 10 (mFs ad iv), zI (G.2.2.1 0) (ad 0) 602 g, zI (G.2.2.1 0) (ad 4) 6 (upd er 1 (er 1 + 1))]) (st2 := [.int (-1000001)]) hz hA (zk_V hz (rm := (zRm 0 0 0 0)) (As := [.int (-1000001)]) (rest := []) 1 q2032 q2034 qs35 q95 q2035 (by decide +kernel) ⟨Nat.le_of_ble_eq_true rfl, Nat.le_of_ble_eq_true rfl⟩ ⟨Nat.le_of_ble_eq_true rfl, Nat.le_of_ble_eq_true rfl⟩ (zRecv (q := (RX10, TX10, 29)) hz (zAt.mt 0 0 rfl rfl) rfl) rfl rfl (Nat.le_of_ble_eq_true rfl) dX10_of_30) (mM_finding ad iv er (-1000001) 1 (by decide) (by decide)) [0, 2] rfl (by decide) rfl rfl ?_
      exact z_iret hQ hz hr hlk dX10_of_33 (by
        have e9 : sOf g (nI j) what = (1, 0, g) := by simp [sOf, inR, nI_clamp, c1, c2, t_j]
        rw [e9]; exact ⟨congrArg (fun z => some (Value.int z)) rE1, rfl⟩)
    · obtain ⟨f, f_lo, f_hi, rfl⟩ := inR_nat 0 4 kn_0 kn_4 (by decide) (by decide) c2
      have t_f : tN (nI f) = f := nI_clamp (by omega)
      refine z_aload_n hz dX10_of_18 0 rfl rfl ?_
      refine z_iload_n hz dX10_of_19 1 rfl rfl ?_
      refine z_iload_n hz dX10_of_20 2 rfl rfl ?_
      refine z_callRD (st2 := [.int (g (36 + 5 * j + f))]) hz zKp.mt (zk_V hz (rm := (zRm 0 0 0 0)) (As := [.int (nI j), .int (nI f)]) (rest := []) 2 q2057 q2059 qs38 q95 q2060 (by decide +kernel) ⟨Nat.le_of_ble_eq_true rfl, Nat.le_of_ble_eq_true rfl⟩ ⟨Nat.le_of_ble_eq_true rfl, Nat.le_of_ble_eq_true rfl⟩ (zRecv (q := (RX10, TX10, 29)) hz (zAt.mt 0 0 rfl rfl) rfl) rfl rfl (Nat.le_of_ble_eq_true rfl) dX10_of_21) (mM_man2 ad iv g j f (by omega)) (fun H9 L9 h9 => (zPc (zAt.mt 0 0 rfl rfl) h9 (zPc (zAt.mt 1 0 rfl rfl) h9 zP0))) rfl ?_
      refine z_goto hz 33 dX10_of_24 (by decide) ?_
      exact z_iret hQ hz hr hlk dX10_of_33 (by
        have e9 : sOf g (nI j) (nI f) = (0, g (36 + 5 * j + f), g) := by simp [sOf, inR, nI_clamp, c1, c2, t_j, t_f]
        rw [e9]; exact ⟨rfl, rfl⟩)
set_option maxHeartbeats 400000 in
theorem mM_door {G : zG} (ad : Nat → Nat) (iv g er : Nat → Int32) (door isOpen : Int32) : zMet G yX10_door (ws_ yX10_door cX10_door 3 (some .int)) (zRm 2 0 0 60) [.ref (ad 99), .int door, .int isOpen] [zO (ad 99) 10 (mFs ad iv), zI (G.2.2.1 0) (ad 0) 602 g, zI (G.2.2.1 0) (ad 4) 6 er] (fun v9 b9 => v9 = some (.int (rOf (sDoor g door isOpen))) ∧ b9 = [zO (ad 99) 10 (mFs ad iv), zI (G.2.2.1 0) (ad 0) 602 ((sDoor g door isOpen).2.2), zI (G.2.2.1 0) (ad 4) 6 (eOf er (sDoor g door isOpen))]) := by
  refine zMet.of (by decide +kernel) (Nat.le_of_ble_eq_true rfl) ?_
  intro p e s m args below meth c A hz hA hr hlk hnm9 Q hQ
  refine z_lv (lv' := [(0, .ref (ad 99)), (1, .int door), (2, .int isOpen)]) [0, 1, 2] rfl ?_
  refine z_iload_n hz dX10_door_0 1 rfl rfl ?_
  refine z_iconst hz 0 dX10_door_1 ki_0 ?_
  refine z_bipush hz 6 dX10_door_2 kb_6 ?_
  refine z_callRD (st2 := [.int (zB (inR door 0 6))]) hz zKp.mt (zk_S hz (rm := (zRm 0 0 0 0)) (As := [.int door, .int 0, .int 6]) (rest := []) 3 q2023 q2024 q95 q2025 (by decide +kernel) ⟨Nat.le_of_ble_eq_true rfl, Nat.le_of_ble_eq_true rfl⟩ ⟨Nat.le_of_ble_eq_true rfl, Nat.le_of_ble_eq_true rfl⟩ rfl rfl (Nat.le_of_ble_eq_true rfl) dX10_door_4) (mM_within door 0 6) (fun _ _ _ => zP0) rfl ?_
  refine z_ifB_eq hz 31 dX10_door_7 (by decide) (fun c1 => ?_) (fun c1 => ?_)
  · refine z_aload_n hz dX10_door_31 0 rfl rfl ?_
    refine z_ldc hz q2031 dX10_door_32 ?_
    refine z_callD (bs2 := [zO (ad 99) 10 (mFs ad iv), zI (G.2.2.1 0) (ad 0) 602 g, zI (G.2.2.1 0) (ad 4) 6 (upd er 1 (er 1 + 1))]) (st2 := [.int (-1000001)]) hz hA (zk_V hz (rm := (zRm 0 0 0 0)) (As := [.int (-1000001)]) (rest := []) 1 q2032 q2034 qs35 q95 q2035 (by decide +kernel) ⟨Nat.le_of_ble_eq_true rfl, Nat.le_of_ble_eq_true rfl⟩ ⟨Nat.le_of_ble_eq_true rfl, Nat.le_of_ble_eq_true rfl⟩ (zRecv (q := (RX10, TX10, 29)) hz (zAt.mt 0 0 rfl rfl) rfl) rfl rfl (Nat.le_of_ble_eq_true rfl) dX10_door_34) (mM_finding ad iv er (-1000001) 1 (by decide) (by decide)) [0, 2] rfl (by decide) rfl rfl ?_
    exact z_iret hQ hz hr hlk dX10_door_37 (by
      have e9 : sDoor g door isOpen = (1, 0, g) := by simp [sDoor, inR, nI_clamp, c1]
      rw [e9]; exact ⟨congrArg (fun z => some (Value.int z)) rE1, rfl⟩)
  · obtain ⟨j, j_lo, j_hi, rfl⟩ := inR_nat 0 6 kn_0 kn_6 (by decide) (by decide) c1
    have t_j : tN (nI j) = j := nI_clamp (by omega)
    refine z_iload_n hz dX10_door_10 2 rfl rfl ?_
    refine z_iconst hz 0 dX10_door_11 ki_0 ?_
    refine z_iconst hz 1 dX10_door_12 ki_1 ?_
    refine z_callRD (st2 := [.int (zB (inR isOpen 0 1))]) hz zKp.mt (zk_S hz (rm := (zRm 0 0 0 0)) (As := [.int isOpen, .int 0, .int 1]) (rest := []) 3 q2023 q2024 q95 q2025 (by decide +kernel) ⟨Nat.le_of_ble_eq_true rfl, Nat.le_of_ble_eq_true rfl⟩ ⟨Nat.le_of_ble_eq_true rfl, Nat.le_of_ble_eq_true rfl⟩ rfl rfl (Nat.le_of_ble_eq_true rfl) dX10_door_13) (mM_within isOpen 0 1) (fun _ _ _ => zP0) rfl ?_
    refine z_ifB_eq hz 31 dX10_door_16 (by decide) (fun c2 => ?_) (fun c2 => ?_)
    · refine z_aload_n hz dX10_door_31 0 rfl rfl ?_
      refine z_ldc hz q2031 dX10_door_32 ?_
      refine z_callD (bs2 := [zO (ad 99) 10 (mFs ad iv), zI (G.2.2.1 0) (ad 0) 602 g, zI (G.2.2.1 0) (ad 4) 6 (upd er 1 (er 1 + 1))]) (st2 := [.int (-1000001)]) hz hA (zk_V hz (rm := (zRm 0 0 0 0)) (As := [.int (-1000001)]) (rest := []) 1 q2032 q2034 qs35 q95 q2035 (by decide +kernel) ⟨Nat.le_of_ble_eq_true rfl, Nat.le_of_ble_eq_true rfl⟩ ⟨Nat.le_of_ble_eq_true rfl, Nat.le_of_ble_eq_true rfl⟩ (zRecv (q := (RX10, TX10, 29)) hz (zAt.mt 0 0 rfl rfl) rfl) rfl rfl (Nat.le_of_ble_eq_true rfl) dX10_door_34) (mM_finding ad iv er (-1000001) 1 (by decide) (by decide)) [0, 2] rfl (by decide) rfl rfl ?_
      exact z_iret hQ hz hr hlk dX10_door_37 (by
        have e9 : sDoor g (nI j) isOpen = (1, 0, g) := by simp [sDoor, inR, nI_clamp, c1, c2, t_j]
        rw [e9]; exact ⟨congrArg (fun z => some (Value.int z)) rE1, rfl⟩)
    · refine z_aload_n hz dX10_door_19 0 rfl rfl ?_
      refine z_bipush hz 13 dX10_door_20 kb_13 ?_
      refine z_iload_n hz dX10_door_22 1 rfl rfl ?_
      refine z_iaddN hz kn_13 rfl dX10_door_23 ?_
      refine z_iload_n hz dX10_door_24 2 rfl rfl ?_
      refine z_callD (bs2 := [zO (ad 99) 10 (mFs ad iv), zI (G.2.2.1 0) (ad 0) 602 (upd g (13 + j) isOpen), zI (G.2.2.1 0) (ad 4) 6 er]) (st2 := [.int (g (13 + j))]) hz hA (zk_V hz (rm := (zRm 0 0 0 0)) (As := [.int (nI (13 + j)), .int isOpen]) (rest := []) 2 q2027 q2029 qs34 q95 q2030 (by decide +kernel) ⟨Nat.le_of_ble_eq_true rfl, Nat.le_of_ble_eq_true rfl⟩ ⟨Nat.le_of_ble_eq_true rfl, Nat.le_of_ble_eq_true rfl⟩ (zRecv (q := (RX10, TX10, 29)) hz (zAt.mt 0 0 rfl rfl) rfl) rfl rfl (Nat.le_of_ble_eq_true rfl) dX10_door_25) (mM_become ad iv g (13 + j) isOpen (by omega)) [0, 1] rfl (by decide) rfl rfl ?_
      refine z_goto hz 37 dX10_door_28 (by decide) ?_
      exact z_iret hQ hz hr hlk dX10_door_37 (by
        have e9 : sDoor g (nI j) isOpen = (0, g (13 + j), upd g (13 + j) isOpen) := by simp [sDoor, inR, nI_clamp, c1, c2, t_j]
        rw [e9]; exact ⟨rfl, rfl⟩)
set_option maxHeartbeats 400000 in
theorem mM_valve {G : zG} (ad : Nat → Nat) (iv g er : Nat → Int32) (room wd : Int32) (nv : Nat) (hnv : g 2 = nI nv) (h12 : nv ≤ 12) : zMet G yX10_valve (ws_ yX10_valve cX10_valve 4 (some .int)) (zRm 2 0 0 60) [.ref (ad 99), .int room, .int wd] [zO (ad 99) 10 (mFs ad iv), zI (G.2.2.1 0) (ad 0) 602 g, zI (G.2.2.1 0) (ad 4) 6 er] (fun v9 b9 => v9 = some (.int (rOf (sValve g room wd))) ∧ b9 = [zO (ad 99) 10 (mFs ad iv), zI (G.2.2.1 0) (ad 0) 602 ((sValve g room wd).2.2), zI (G.2.2.1 0) (ad 4) 6 (eOf er (sValve g room wd))]) := by
  refine zMet.of (by decide +kernel) (Nat.le_of_ble_eq_true rfl) ?_
  intro p e s m args below meth c A hz hA hr hlk hnm9 Q hQ
  refine z_lv (lv' := [(0, .ref (ad 99)), (1, .int room), (2, .int wd)]) [0, 1, 2] rfl ?_
  have tnv : tN (nI nv) = nv := nI_clamp (by omega)
  refine z_iload_n hz dX10_valve_0 1 rfl rfl ?_
  refine z_callRD (st2 := [.int (zB (inR room 0 7))]) hz zKp.mt (zk_S hz (rm := (zRm 1 0 0 30)) (As := [.int room]) (rest := []) 1 q2041 q2042 q95 q2043 (by decide +kernel) ⟨Nat.le_of_ble_eq_true rfl, Nat.le_of_ble_eq_true rfl⟩ ⟨Nat.le_of_ble_eq_true rfl, Nat.le_of_ble_eq_true rfl⟩ rfl rfl (Nat.le_of_ble_eq_true rfl) dX10_valve_1) (mM_isRoom room) (fun _ _ _ => zP0) rfl ?_
  refine z_ifB_eq hz 17 dX10_valve_4 (by decide) (fun c1 => ?_) (fun c1 => ?_)
  · refine z_aload_n hz dX10_valve_17 0 rfl rfl ?_
    refine z_ldc hz q2031 dX10_valve_18 ?_
    refine z_callD (bs2 := [zO (ad 99) 10 (mFs ad iv), zI (G.2.2.1 0) (ad 0) 602 g, zI (G.2.2.1 0) (ad 4) 6 (upd er 1 (er 1 + 1))]) (st2 := [.int (-1000001)]) hz hA (zk_V hz (rm := (zRm 0 0 0 0)) (As := [.int (-1000001)]) (rest := []) 1 q2032 q2034 qs35 q95 q2035 (by decide +kernel) ⟨Nat.le_of_ble_eq_true rfl, Nat.le_of_ble_eq_true rfl⟩ ⟨Nat.le_of_ble_eq_true rfl, Nat.le_of_ble_eq_true rfl⟩ (zRecv (q := (RX10, TX10, 29)) hz (zAt.mt 0 0 rfl rfl) rfl) rfl rfl (Nat.le_of_ble_eq_true rfl) dX10_valve_20) (mM_finding ad iv er (-1000001) 1 (by decide) (by decide)) [0, 2] rfl (by decide) rfl rfl ?_
    exact z_iret hQ hz hr hlk dX10_valve_23 (by
      have e9 : sValve g room wd = (1, 0, g) := by simp [sValve, valveF, inR, nI_clamp, c1, hnv, tnv]
      rw [e9]; exact ⟨congrArg (fun z => some (Value.int z)) rE1, rfl⟩)
  · refine z_iload_n hz dX10_valve_7 2 rfl rfl ?_
    refine z_iconst hz 1 dX10_valve_8 ki_1 ?_
    refine z_bipush hz 20 dX10_valve_9 kb_20 ?_
    refine z_callRD (st2 := [.int (zB (inR wd 1 20))]) hz zKp.mt (zk_S hz (rm := (zRm 0 0 0 0)) (As := [.int wd, .int 1, .int 20]) (rest := []) 3 q2023 q2024 q95 q2025 (by decide +kernel) ⟨Nat.le_of_ble_eq_true rfl, Nat.le_of_ble_eq_true rfl⟩ ⟨Nat.le_of_ble_eq_true rfl, Nat.le_of_ble_eq_true rfl⟩ rfl rfl (Nat.le_of_ble_eq_true rfl) dX10_valve_11) (mM_within wd 1 20) (fun _ _ _ => zP0) rfl ?_
    refine z_ifB_ne hz 24 dX10_valve_14 (by decide) (fun c2 => ?_) (fun c2 => ?_)
    · refine z_aload_n hz dX10_valve_24 0 rfl rfl ?_
      refine z_get (C := RX10) (T := TX10) (N := 29) hz in_X10 (zAt.mt 0 0 rfl rfl) rfl 0 (by decide) q1929 (fun _ h9 => h9) rfl dX10_valve_25 ?_
      refine z_iconst hz 2 dX10_valve_28 ki_2 ?_
      refine z_iald hz (zAt.mt 1 0 rfl rfl) kn_2 (by decide) (by decide) dX10_valve_29 ?_
      refine z_top hnv ?_
      refine z_istore_n (lv' := [(0, .ref (ad 99)), (1, .int room), (2, .int wd), (3, .int (nI nv))]) hz [1, 2, 3, 0] dX10_valve_30 rfl (by decide) rfl ?_
      refine z_iload_n hz dX10_valve_31 3 rfl rfl ?_
      refine z_bipush hz 12 dX10_valve_32 kb_12 ?_
      refine z_icmpN_ne hz rfl kn_12 (by omega) (by decide) 44 dX10_valve_34 (by decide) (fun c3 => ?_) (fun c3 => ?_)
      · refine z_aload_n hz dX10_valve_44 0 rfl rfl ?_
        refine z_get (C := RX10) (T := TX10) (N := 29) hz in_X10 (zAt.mt 0 0 rfl rfl) rfl 0 (by decide) q1929 (fun _ h9 => h9) rfl dX10_valve_45 ?_
        refine z_bipush hz 116 dX10_valve_48 kb_116 ?_
        refine z_iconst hz 3 dX10_valve_50 ki_3 ?_
        refine z_iload_n hz dX10_valve_51 3 rfl rfl ?_
        refine z_imulN hz kn_3 rfl dX10_valve_52 ?_
        refine z_iaddN hz kn_116 rfl dX10_valve_53 ?_
        refine z_iload_n hz dX10_valve_54 1 rfl rfl ?_
        refine z_iast hz 1 0 rfl rfl rfl (by omega) (by decide) dX10_valve_55 ?_
        refine z_bs (bs2 := [zO (ad 99) 10 (mFs ad iv), zI (G.2.2.1 0) (ad 0) 602 (upd g (116 + (3 * nv)) room), zI (G.2.2.1 0) (ad 4) 6 er]) rfl ?_
        refine z_aload_n hz dX10_valve_56 0 rfl rfl ?_
        refine z_get (C := RX10) (T := TX10) (N := 29) hz in_X10 (zAt.mt 0 0 rfl rfl) rfl 0 (by decide) q1929 (fun _ h9 => h9) rfl dX10_valve_57 ?_
        refine z_bipush hz 116 dX10_valve_60 kb_116 ?_
        refine z_iconst hz 3 dX10_valve_62 ki_3 ?_
        refine z_iload_n hz dX10_valve_63 3 rfl rfl ?_
        refine z_imulN hz kn_3 rfl dX10_valve_64 ?_
        refine z_iaddN hz kn_116 rfl dX10_valve_65 ?_
        refine z_iconst hz 1 dX10_valve_66 ki_1 ?_
        refine z_iaddN hz rfl kn_1 dX10_valve_67 ?_
        refine z_iload_n hz dX10_valve_68 2 rfl rfl ?_
        refine z_iast hz 1 0 rfl rfl rfl (by omega) (by decide) dX10_valve_69 ?_
        refine z_bs (bs2 := [zO (ad 99) 10 (mFs ad iv), zI (G.2.2.1 0) (ad 0) 602 (upd (upd g (116 + (3 * nv)) room) ((116 + (3 * nv)) + 1) wd), zI (G.2.2.1 0) (ad 4) 6 er]) rfl ?_
        refine z_aload_n hz dX10_valve_70 0 rfl rfl ?_
        refine z_get (C := RX10) (T := TX10) (N := 29) hz in_X10 (zAt.mt 0 0 rfl rfl) rfl 0 (by decide) q1929 (fun _ h9 => h9) rfl dX10_valve_71 ?_
        refine z_bipush hz 116 dX10_valve_74 kb_116 ?_
        refine z_iconst hz 3 dX10_valve_76 ki_3 ?_
        refine z_iload_n hz dX10_valve_77 3 rfl rfl ?_
        refine z_imulN hz kn_3 rfl dX10_valve_78 ?_
        refine z_iaddN hz kn_116 rfl dX10_valve_79 ?_
        refine z_iconst hz 2 dX10_valve_80 ki_2 ?_
        refine z_iaddN hz rfl kn_2 dX10_valve_81 ?_
        refine z_iconst hz 0 dX10_valve_82 ki_0 ?_
        refine z_iast hz 1 0 rfl rfl rfl (by omega) (by decide) dX10_valve_83 ?_
        refine z_bs (bs2 := [zO (ad 99) 10 (mFs ad iv), zI (G.2.2.1 0) (ad 0) 602 (upd (upd (upd g (116 + (3 * nv)) room) ((116 + (3 * nv)) + 1) wd) ((116 + (3 * nv)) + 2) 0), zI (G.2.2.1 0) (ad 4) 6 er]) rfl ?_
        refine z_aload_n hz dX10_valve_84 0 rfl rfl ?_
        refine z_get (C := RX10) (T := TX10) (N := 29) hz in_X10 (zAt.mt 0 0 rfl rfl) rfl 0 (by decide) q1929 (fun _ h9 => h9) rfl dX10_valve_85 ?_
        refine z_iconst hz 2 dX10_valve_88 ki_2 ?_
        refine z_dup2 hz dX10_valve_89 rfl rfl ?_
        refine z_iald hz (zAt.mt 1 0 rfl rfl) kn_2 (by decide) (by decide) dX10_valve_90 ?_
        refine z_top (ld_ne (by omega) (ld_ne (by omega) (ld_ne (by omega) hnv))) ?_
        refine z_iconst hz 1 dX10_valve_91 ki_1 ?_
        refine z_iaddN hz rfl kn_1 dX10_valve_92 ?_
        refine z_iast hz 1 0 rfl rfl kn_2 (by decide) (by decide) dX10_valve_93 ?_
        refine z_bs (bs2 := [zO (ad 99) 10 (mFs ad iv), zI (G.2.2.1 0) (ad 0) 602 (upd (upd (upd (upd g (116 + (3 * nv)) room) ((116 + (3 * nv)) + 1) wd) ((116 + (3 * nv)) + 2) 0) 2 (nI (nv + 1))), zI (G.2.2.1 0) (ad 4) 6 er]) rfl ?_
        refine z_iload_n hz dX10_valve_94 3 rfl rfl ?_
        exact z_iret hQ hz hr hlk dX10_valve_95 (by
          have e9 : sValve g room wd = (0, nI nv, upd (upd (upd (upd g (116 + (3 * nv)) room) ((116 + (3 * nv)) + 1) wd) ((116 + (3 * nv)) + 2) 0) 2 (nI (nv + 1))) := by simp [sValve, valveF, inR, nI_clamp, c1, c2, c3, hnv, tnv]
          rw [e9]; exact ⟨rfl, rfl⟩)
      · refine z_aload_n hz dX10_valve_37 0 rfl rfl ?_
        refine z_ldc hz q2044 dX10_valve_38 ?_
        refine z_callD (bs2 := [zO (ad 99) 10 (mFs ad iv), zI (G.2.2.1 0) (ad 0) 602 g, zI (G.2.2.1 0) (ad 4) 6 (upd er 4 (er 4 + 1))]) (st2 := [.int (-1000004)]) hz hA (zk_V hz (rm := (zRm 0 0 0 0)) (As := [.int (-1000004)]) (rest := []) 1 q2032 q2034 qs35 q95 q2035 (by decide +kernel) ⟨Nat.le_of_ble_eq_true rfl, Nat.le_of_ble_eq_true rfl⟩ ⟨Nat.le_of_ble_eq_true rfl, Nat.le_of_ble_eq_true rfl⟩ (zRecv (q := (RX10, TX10, 29)) hz (zAt.mt 0 0 rfl rfl) rfl) rfl rfl (Nat.le_of_ble_eq_true rfl) dX10_valve_40) (mM_finding ad iv er (-1000004) 4 (by decide) (by decide)) [0, 2] rfl (by decide) rfl rfl ?_
        exact z_iret hQ hz hr hlk dX10_valve_43 (by
          have e9 : sValve g room wd = (4, 0, g) := by simp [sValve, valveF, inR, nI_clamp, c1, c2, c3, hnv, tnv]
          rw [e9]; exact ⟨congrArg (fun z => some (Value.int z)) rE4, rfl⟩)
    · refine z_aload_n hz dX10_valve_17 0 rfl rfl ?_
      refine z_ldc hz q2031 dX10_valve_18 ?_
      refine z_callD (bs2 := [zO (ad 99) 10 (mFs ad iv), zI (G.2.2.1 0) (ad 0) 602 g, zI (G.2.2.1 0) (ad 4) 6 (upd er 1 (er 1 + 1))]) (st2 := [.int (-1000001)]) hz hA (zk_V hz (rm := (zRm 0 0 0 0)) (As := [.int (-1000001)]) (rest := []) 1 q2032 q2034 qs35 q95 q2035 (by decide +kernel) ⟨Nat.le_of_ble_eq_true rfl, Nat.le_of_ble_eq_true rfl⟩ ⟨Nat.le_of_ble_eq_true rfl, Nat.le_of_ble_eq_true rfl⟩ (zRecv (q := (RX10, TX10, 29)) hz (zAt.mt 0 0 rfl rfl) rfl) rfl rfl (Nat.le_of_ble_eq_true rfl) dX10_valve_20) (mM_finding ad iv er (-1000001) 1 (by decide) (by decide)) [0, 2] rfl (by decide) rfl rfl ?_
      exact z_iret hQ hz hr hlk dX10_valve_23 (by
        have e9 : sValve g room wd = (1, 0, g) := by simp [sValve, valveF, inR, nI_clamp, c1, c2, hnv, tnv]
        rw [e9]; exact ⟨congrArg (fun z => some (Value.int z)) rE1, rfl⟩)
set_option maxHeartbeats 400000 in
theorem mM_turn {G : zG} (ad : Nat → Nat) (iv g er : Nat → Int32) (valve isOpen : Int32) (nv : Nat) (hnv : g 2 = nI nv) (h12 : nv ≤ 12) : zMet G yX10_turn (ws_ yX10_turn cX10_turn 3 (some .int)) (zRm 2 0 0 60) [.ref (ad 99), .int valve, .int isOpen] [zO (ad 99) 10 (mFs ad iv), zI (G.2.2.1 0) (ad 0) 602 g, zI (G.2.2.1 0) (ad 4) 6 er] (fun v9 b9 => v9 = some (.int (rOf (sTurn g valve isOpen))) ∧ b9 = [zO (ad 99) 10 (mFs ad iv), zI (G.2.2.1 0) (ad 0) 602 ((sTurn g valve isOpen).2.2), zI (G.2.2.1 0) (ad 4) 6 (eOf er (sTurn g valve isOpen))]) := by
  refine zMet.of (by decide +kernel) (Nat.le_of_ble_eq_true rfl) ?_
  intro p e s m args below meth c A hz hA hr hlk hnm9 Q hQ
  refine z_lv (lv' := [(0, .ref (ad 99)), (1, .int valve), (2, .int isOpen)]) [0, 1, 2] rfl ?_
  refine z_aload_n hz dX10_turn_0 0 rfl rfl ?_
  refine z_iload_n hz dX10_turn_1 1 rfl rfl ?_
  refine z_iconst hz 2 dX10_turn_2 ki_2 ?_
  refine z_callRD (st2 := [.int (zB (inR valve 0 (g 2 - 1)))]) hz zKp.mt (zk_V hz (rm := (zRm 1 0 0 30)) (As := [.int valve, .int 2]) (rest := []) 2 q2053 q2055 qs37 q95 q2056 (by decide +kernel) ⟨Nat.le_of_ble_eq_true rfl, Nat.le_of_ble_eq_true rfl⟩ ⟨Nat.le_of_ble_eq_true rfl, Nat.le_of_ble_eq_true rfl⟩ (zRecv (q := (RX10, TX10, 29)) hz (zAt.mt 0 0 rfl rfl) rfl) rfl rfl (Nat.le_of_ble_eq_true rfl) dX10_turn_3) (mM_is ad iv g valve 2 (by decide)) (fun H9 L9 h9 => (zPc (zAt.mt 0 0 rfl rfl) h9 (zPc (zAt.mt 1 0 rfl rfl) h9 zP0))) rfl ?_
  refine z_ifB_eq hz 34 dX10_turn_6 (by decide) (fun c1 => ?_) (fun c1 => ?_)
  · refine z_aload_n hz dX10_turn_34 0 rfl rfl ?_
    refine z_ldc hz q2031 dX10_turn_35 ?_
    refine z_callD (bs2 := [zO (ad 99) 10 (mFs ad iv), zI (G.2.2.1 0) (ad 0) 602 g, zI (G.2.2.1 0) (ad 4) 6 (upd er 1 (er 1 + 1))]) (st2 := [.int (-1000001)]) hz hA (zk_V hz (rm := (zRm 0 0 0 0)) (As := [.int (-1000001)]) (rest := []) 1 q2032 q2034 qs35 q95 q2035 (by decide +kernel) ⟨Nat.le_of_ble_eq_true rfl, Nat.le_of_ble_eq_true rfl⟩ ⟨Nat.le_of_ble_eq_true rfl, Nat.le_of_ble_eq_true rfl⟩ (zRecv (q := (RX10, TX10, 29)) hz (zAt.mt 0 0 rfl rfl) rfl) rfl rfl (Nat.le_of_ble_eq_true rfl) dX10_turn_37) (mM_finding ad iv er (-1000001) 1 (by decide) (by decide)) [0, 2] rfl (by decide) rfl rfl ?_
    exact z_iret hQ hz hr hlk dX10_turn_40 (by
      have e9 : sTurn g valve isOpen = (1, 0, g) := by simp [sTurn, inR, nI_clamp, c1]
      rw [e9]; exact ⟨congrArg (fun z => some (Value.int z)) rE1, rfl⟩)
  · obtain ⟨j, j_lt, rfl⟩ := is_nat hnv (by omega) c1
    have t_j : tN (nI j) = j := nI_clamp (by omega)
    refine z_iload_n hz dX10_turn_9 2 rfl rfl ?_
    refine z_iconst hz 0 dX10_turn_10 ki_0 ?_
    refine z_iconst hz 1 dX10_turn_11 ki_1 ?_
    refine z_callRD (st2 := [.int (zB (inR isOpen 0 1))]) hz zKp.mt (zk_S hz (rm := (zRm 0 0 0 0)) (As := [.int isOpen, .int 0, .int 1]) (rest := []) 3 q2023 q2024 q95 q2025 (by decide +kernel) ⟨Nat.le_of_ble_eq_true rfl, Nat.le_of_ble_eq_true rfl⟩ ⟨Nat.le_of_ble_eq_true rfl, Nat.le_of_ble_eq_true rfl⟩ rfl rfl (Nat.le_of_ble_eq_true rfl) dX10_turn_12) (mM_within isOpen 0 1) (fun _ _ _ => zP0) rfl ?_
    refine z_ifB_eq hz 34 dX10_turn_15 (by decide) (fun c2 => ?_) (fun c2 => ?_)
    · refine z_aload_n hz dX10_turn_34 0 rfl rfl ?_
      refine z_ldc hz q2031 dX10_turn_35 ?_
      refine z_callD (bs2 := [zO (ad 99) 10 (mFs ad iv), zI (G.2.2.1 0) (ad 0) 602 g, zI (G.2.2.1 0) (ad 4) 6 (upd er 1 (er 1 + 1))]) (st2 := [.int (-1000001)]) hz hA (zk_V hz (rm := (zRm 0 0 0 0)) (As := [.int (-1000001)]) (rest := []) 1 q2032 q2034 qs35 q95 q2035 (by decide +kernel) ⟨Nat.le_of_ble_eq_true rfl, Nat.le_of_ble_eq_true rfl⟩ ⟨Nat.le_of_ble_eq_true rfl, Nat.le_of_ble_eq_true rfl⟩ (zRecv (q := (RX10, TX10, 29)) hz (zAt.mt 0 0 rfl rfl) rfl) rfl rfl (Nat.le_of_ble_eq_true rfl) dX10_turn_37) (mM_finding ad iv er (-1000001) 1 (by decide) (by decide)) [0, 2] rfl (by decide) rfl rfl ?_
      exact z_iret hQ hz hr hlk dX10_turn_40 (by
        have e9 : sTurn g (nI j) isOpen = (1, 0, g) := by simp [sTurn, inR, nI_clamp, c1, c2, t_j]
        rw [e9]; exact ⟨congrArg (fun z => some (Value.int z)) rE1, rfl⟩)
    · refine z_aload_n hz dX10_turn_18 0 rfl rfl ?_
      refine z_bipush hz 116 dX10_turn_19 kb_116 ?_
      refine z_iconst hz 3 dX10_turn_21 ki_3 ?_
      refine z_iload_n hz dX10_turn_22 1 rfl rfl ?_
      refine z_imulN hz kn_3 rfl dX10_turn_23 ?_
      refine z_iaddN hz kn_116 rfl dX10_turn_24 ?_
      refine z_iconst hz 2 dX10_turn_25 ki_2 ?_
      refine z_iaddN hz rfl kn_2 dX10_turn_26 ?_
      refine z_iload_n hz dX10_turn_27 2 rfl rfl ?_
      refine z_callD (bs2 := [zO (ad 99) 10 (mFs ad iv), zI (G.2.2.1 0) (ad 0) 602 (upd g ((116 + (3 * j)) + 2) isOpen), zI (G.2.2.1 0) (ad 4) 6 er]) (st2 := [.int (g ((116 + (3 * j)) + 2))]) hz hA (zk_V hz (rm := (zRm 0 0 0 0)) (As := [.int (nI ((116 + (3 * j)) + 2)), .int isOpen]) (rest := []) 2 q2027 q2029 qs34 q95 q2030 (by decide +kernel) ⟨Nat.le_of_ble_eq_true rfl, Nat.le_of_ble_eq_true rfl⟩ ⟨Nat.le_of_ble_eq_true rfl, Nat.le_of_ble_eq_true rfl⟩ (zRecv (q := (RX10, TX10, 29)) hz (zAt.mt 0 0 rfl rfl) rfl) rfl rfl (Nat.le_of_ble_eq_true rfl) dX10_turn_28) (mM_become ad iv g ((116 + (3 * j)) + 2) isOpen (by omega)) [0, 1] rfl (by decide) rfl rfl ?_
      refine z_goto hz 40 dX10_turn_31 (by decide) ?_
      exact z_iret hQ hz hr hlk dX10_turn_40 (by
        have e9 : sTurn g (nI j) isOpen = (0, g ((116 + (3 * j)) + 2), upd g ((116 + (3 * j)) + 2) isOpen) := by simp [sTurn, inR, nI_clamp, c1, c2, t_j]
        rw [e9]; exact ⟨rfl, rfl⟩)
set_option maxHeartbeats 400000 in
theorem mM_menIn {G : zG} (ad : Nat → Nat) (iv g : Nat → Int32) (room : Int32) (nm : Nat) (hnm : g 1 = nI nm) (h16 : nm ≤ 16) : zRd G yX10_menIn (ws_ yX10_menIn cX10_menIn 4 (some .int)) (zRm 1 0 0 30) [.ref (ad 99), .int room] [(ad 99, .inr (10, mFs ad iv)), (ad 0, .inl (G.2.2.1 0, 602, .inl g))] (fun v9 => v9 = some (.int (menF g room nm))) := by
  refine zRd.of (by decide +kernel) (Nat.le_of_ble_eq_true rfl) ?_
  intro p e s m args below meth c hz hP hr hlk Q hQ
  refine z_lv (lv' := [(0, .ref (ad 99)), (1, .int room)]) [0, 1] rfl ?_
  refine z_iconst hz 0 dX10_menIn_0 ki_0 ?_
  refine z_istore_n (lv' := [(0, .ref (ad 99)), (1, .int room), (2, .int 0)]) hz [1, 2, 0] dX10_menIn_1 rfl (by decide) rfl ?_
  refine z_iconst hz 0 dX10_menIn_2 ki_0 ?_
  refine z_istore_n (lv' := [(0, .ref (ad 99)), (1, .int room), (2, .int 0), (3, .int 0)]) hz [1, 2, 3, 0] dX10_menIn_3 rfl (by decide) rfl ?_
  have lp_4 : ∀ (n9 : Nat) (k : Nat) (x : Int32), k ≤ nm → x = menF g room k → nm - k < n9 → zW p G.1 e (zRm 1 0 0 30) s m args below meth c 4 Q 0 0 (zΨ s) 4 [(0, .ref (ad 99)), (1, .int room), (2, .int x), (3, .int (nI k))] [] := by
    intro n9
    induction n9 with
    | zero => intro _ _ _ _ hm; exact absurd hm (Nat.not_lt_zero _)
    | succ n9 ih_4 =>
      intro k x hk hx hm_4
      refine z_iload_n hz dX10_menIn_4 3 rfl rfl ?_
      refine z_aload_n hz dX10_menIn_5 0 rfl rfl ?_
      refine z_get (C := RX10) (T := TX10) (N := 29) hz in_X10 (zAt.rd hP 0 rfl) rfl 0 (by decide) q1929 (fun _ h9 => h9) rfl dX10_menIn_6 ?_
      refine z_iconst hz 1 dX10_menIn_9 ki_1 ?_
      refine z_iald hz (zAt.rd hP 1 rfl) kn_1 (by decide) (by decide) dX10_menIn_10 ?_
      refine z_top hnm ?_
      refine z_icmpN_ge hz rfl rfl (by omega) (by omega) 40 dX10_menIn_11 (by decide) (fun c1 => ?_) (fun c1 => ?_)
      · refine z_iload_n hz dX10_menIn_40 2 rfl rfl ?_
        exact zr_iret hQ hz hr hlk dX10_menIn_41 (by rw [hx, show k = nm by omega])
      · refine z_iload_n hz dX10_menIn_14 2 rfl rfl ?_
        refine z_aload_n hz dX10_menIn_15 0 rfl rfl ?_
        refine z_iload_n hz dX10_menIn_16 3 rfl rfl ?_
        refine z_iconst hz 0 dX10_menIn_17 ki_0 ?_
        refine z_callRD (st2 := [.int (g (36 + 5 * k)), .int x]) hz zKp.rd (zk_V hz (rm := (zRm 0 0 0 0)) (As := [.int (nI k), .int 0]) (rest := [.int x]) 2 q2057 q2059 qs38 q95 q2060 (by decide +kernel) ⟨Nat.le_of_ble_eq_true rfl, Nat.le_of_ble_eq_true rfl⟩ ⟨Nat.le_of_ble_eq_true rfl, Nat.le_of_ble_eq_true rfl⟩ (zRecv (q := (RX10, TX10, 29)) hz (zAt.rd hP 0 rfl) rfl) rfl rfl (Nat.le_of_ble_eq_true rfl) dX10_menIn_18) (mM_man2 ad iv g k 0 (by omega)) (fun H9 L9 h9 => (zPc (zAt.rd hP 0 rfl) h9 (zPc (zAt.rd hP 1 rfl) h9 zP0))) rfl ?_
        refine z_iload_n hz dX10_menIn_21 1 rfl rfl ?_
        refine z_icmp_ne hz 31 dX10_menIn_22 (by decide) (fun c2 => ?_) (fun c2 => ?_)
        · refine z_iconst hz 0 dX10_menIn_31 ki_0 ?_
          refine z_ior hz dX10_menIn_32 ?_
          refine z_istore_n (lv' := [(0, .ref (ad 99)), (1, .int room), (2, .int (x ||| 0)), (3, .int (nI k))]) hz [1, 2, 0, 3] dX10_menIn_33 rfl (by decide) rfl ?_
          refine z_iinc (lv' := [(0, .ref (ad 99)), (1, .int room), (2, .int (x ||| 0)), (3, .int (nI (k + 1)))]) hz (nI (k + 1)) 3 [1, 2, 3, 0] dX10_menIn_34 rfl (nI_1 _) (by decide) rfl ?_
          refine z_goto hz 4 dX10_menIn_37 (by decide) ?_
          exact ih_4 (k + 1) (x ||| 0) (by omega) (by rw [hx]; exact (congrArg (menF g room k ||| ·) (if_neg c2)).symm) (by omega)
        · refine z_iconst hz 1 dX10_menIn_25 ki_1 ?_
          refine z_iload_n hz dX10_menIn_26 3 rfl rfl ?_
          refine z_ishl hz dX10_menIn_27 ?_
          refine z_goto hz 32 dX10_menIn_28 (by decide) ?_
          refine z_ior hz dX10_menIn_32 ?_
          refine z_istore_n (lv' := [(0, .ref (ad 99)), (1, .int room), (2, .int (x ||| (1 <<< ((nI k) &&& 31)))), (3, .int (nI k))]) hz [1, 2, 0, 3] dX10_menIn_33 rfl (by decide) rfl ?_
          refine z_iinc (lv' := [(0, .ref (ad 99)), (1, .int room), (2, .int (x ||| (1 <<< ((nI k) &&& 31)))), (3, .int (nI (k + 1)))]) hz (nI (k + 1)) 3 [1, 2, 3, 0] dX10_menIn_34 rfl (nI_1 _) (by decide) rfl ?_
          refine z_goto hz 4 dX10_menIn_37 (by decide) ?_
          exact ih_4 (k + 1) (x ||| (1 <<< ((nI k) &&& 31))) (by omega) (by rw [hx]; exact (congrArg (menF g room k ||| ·) (if_pos c2)).symm) (by omega)
  exact lp_4 ((nm - 0) + 1) 0 0 (Nat.zero_le _) rfl (Nat.lt_succ_self _)
set_option maxHeartbeats 1000000 in
theorem mM_does {G : zG} (ad : Nat → Nat) (iv g er : Nat → Int32) (man what v : Int32) (nm : Nat) (hnm : g 1 = nI nm) (h16 : nm ≤ 16) : zMet G yX10_does (ws_ yX10_does cX10_does 5 (some .int)) (zRm 2 0 0 60) [.ref (ad 99), .int man, .int what, .int v] [zO (ad 99) 10 (mFs ad iv), zI (G.2.2.1 0) (ad 0) 602 g, zI (G.2.2.1 0) (ad 4) 6 er] (fun v9 b9 => v9 = some (.int (rOf (sDoes g man what v))) ∧ b9 = [zO (ad 99) 10 (mFs ad iv), zI (G.2.2.1 0) (ad 0) 602 ((sDoes g man what v).2.2), zI (G.2.2.1 0) (ad 4) 6 (eOf er (sDoes g man what v))]) := by
  refine zMet.of (by decide +kernel) (Nat.le_of_ble_eq_true rfl) ?_
  intro p e s m args below meth c A hz hA hr hlk hnm9 Q hQ
  refine z_lv (lv' := [(0, .ref (ad 99)), (1, .int man), (2, .int what), (3, .int v)]) [0, 1, 2, 3] rfl ?_
  refine z_iload_n hz dX10_does_0 2 rfl rfl ?_
  refine z_if_ne hz 9 dX10_does_1 (by decide) (fun c1 => ?_) (fun c1 => ?_)
  · refine z_iload_n hz dX10_does_9 2 rfl rfl ?_
    refine z_iconst hz 1 dX10_does_10 ki_1 ?_
    refine z_icmp_ne hz 18 dX10_does_11 (by decide) (fun c2 => ?_) (fun c2 => ?_)
    · refine z_iload_n hz dX10_does_18 2 rfl rfl ?_
      refine z_iconst hz 2 dX10_does_19 ki_2 ?_
      refine z_icmp_ne hz 28 dX10_does_20 (by decide) (fun c3 => ?_) (fun c3 => ?_)
      · refine z_iload_n hz dX10_does_28 2 rfl rfl ?_
        refine z_iconst hz 3 dX10_does_29 ki_3 ?_
        refine z_icmp_ne hz 37 dX10_does_30 (by decide) (fun c4 => ?_) (fun c4 => ?_)
        · refine z_sipush hz 2399 dX10_does_37 ks_2399 ?_
          refine z_istore (lv' := [(0, .ref (ad 99)), (1, .int man), (2, .int what), (3, .int v), (4, .int 2399)]) hz [1, 2, 3, 4, 0] dX10_does_40 (by decide) rfl ?_
          refine z_aload_n hz dX10_does_42 0 rfl rfl ?_
          refine z_iload_n hz dX10_does_43 1 rfl rfl ?_
          refine z_iconst hz 1 dX10_does_44 ki_1 ?_
          refine z_callRD (st2 := [.int (zB (inR man 0 (g 1 - 1)))]) hz zKp.mt (zk_V hz (rm := (zRm 1 0 0 30)) (As := [.int man, .int 1]) (rest := []) 2 q2053 q2055 qs37 q95 q2056 (by decide +kernel) ⟨Nat.le_of_ble_eq_true rfl, Nat.le_of_ble_eq_true rfl⟩ ⟨Nat.le_of_ble_eq_true rfl, Nat.le_of_ble_eq_true rfl⟩ (zRecv (q := (RX10, TX10, 29)) hz (zAt.mt 0 0 rfl rfl) rfl) rfl rfl (Nat.le_of_ble_eq_true rfl) dX10_does_45) (mM_is ad iv g man 1 (by decide)) (fun H9 L9 h9 => (zPc (zAt.mt 0 0 rfl rfl) h9 (zPc (zAt.mt 1 0 rfl rfl) h9 zP0))) rfl ?_
          refine z_ifB_eq hz 70 dX10_does_48 (by decide) (fun c5 => ?_) (fun c5 => ?_)
          · refine z_aload_n hz dX10_does_70 0 rfl rfl ?_
            refine z_ldc hz q2031 dX10_does_71 ?_
            refine z_callD (bs2 := [zO (ad 99) 10 (mFs ad iv), zI (G.2.2.1 0) (ad 0) 602 g, zI (G.2.2.1 0) (ad 4) 6 (upd er 1 (er 1 + 1))]) (st2 := [.int (-1000001)]) hz hA (zk_V hz (rm := (zRm 0 0 0 0)) (As := [.int (-1000001)]) (rest := []) 1 q2032 q2034 qs35 q95 q2035 (by decide +kernel) ⟨Nat.le_of_ble_eq_true rfl, Nat.le_of_ble_eq_true rfl⟩ ⟨Nat.le_of_ble_eq_true rfl, Nat.le_of_ble_eq_true rfl⟩ (zRecv (q := (RX10, TX10, 29)) hz (zAt.mt 0 0 rfl rfl) rfl) rfl rfl (Nat.le_of_ble_eq_true rfl) dX10_does_73) (mM_finding ad iv er (-1000001) 1 (by decide) (by decide)) [0, 2] rfl (by decide) rfl rfl ?_
            exact z_iret hQ hz hr hlk dX10_does_76 (by
              have e9 : sDoes g man what v = (1, 0, g) := by simp [sDoes, mostF, tN_0, tN_1, tN_2, tN_3, inR, nI_clamp, c1, c2, c3, c4, c5]
              rw [e9]; exact ⟨congrArg (fun z => some (Value.int z)) rE1, rfl⟩)
          · obtain ⟨j, j_lt, rfl⟩ := is_nat hnm (by omega) c5
            have t_j : tN (nI j) = j := nI_clamp (by omega)
            refine z_iload_n hz dX10_does_51 2 rfl rfl ?_
            refine z_iconst hz 0 dX10_does_52 ki_0 ?_
            refine z_iconst hz 4 dX10_does_53 ki_4 ?_
            refine z_callRD (st2 := [.int (zB (inR what 0 4))]) hz zKp.mt (zk_S hz (rm := (zRm 0 0 0 0)) (As := [.int what, .int 0, .int 4]) (rest := []) 3 q2023 q2024 q95 q2025 (by decide +kernel) ⟨Nat.le_of_ble_eq_true rfl, Nat.le_of_ble_eq_true rfl⟩ ⟨Nat.le_of_ble_eq_true rfl, Nat.le_of_ble_eq_true rfl⟩ rfl rfl (Nat.le_of_ble_eq_true rfl) dX10_does_54) (mM_within what 0 4) (fun _ _ _ => zP0) rfl ?_
            refine z_ifB_eq hz 70 dX10_does_57 (by decide) (fun c6 => ?_) (fun c6 => ?_)
            · refine z_aload_n hz dX10_does_70 0 rfl rfl ?_
              refine z_ldc hz q2031 dX10_does_71 ?_
              refine z_callD (bs2 := [zO (ad 99) 10 (mFs ad iv), zI (G.2.2.1 0) (ad 0) 602 g, zI (G.2.2.1 0) (ad 4) 6 (upd er 1 (er 1 + 1))]) (st2 := [.int (-1000001)]) hz hA (zk_V hz (rm := (zRm 0 0 0 0)) (As := [.int (-1000001)]) (rest := []) 1 q2032 q2034 qs35 q95 q2035 (by decide +kernel) ⟨Nat.le_of_ble_eq_true rfl, Nat.le_of_ble_eq_true rfl⟩ ⟨Nat.le_of_ble_eq_true rfl, Nat.le_of_ble_eq_true rfl⟩ (zRecv (q := (RX10, TX10, 29)) hz (zAt.mt 0 0 rfl rfl) rfl) rfl rfl (Nat.le_of_ble_eq_true rfl) dX10_does_73) (mM_finding ad iv er (-1000001) 1 (by decide) (by decide)) [0, 2] rfl (by decide) rfl rfl ?_
              exact z_iret hQ hz hr hlk dX10_does_76 (by
                have e9 : sDoes g (nI j) what v = (1, 0, g) := by simp [sDoes, mostF, tN_0, tN_1, tN_2, tN_3, inR, nI_clamp, c1, c2, c3, c4, c5, c6, t_j]
                rw [e9]; exact ⟨congrArg (fun z => some (Value.int z)) rE1, rfl⟩)
            · obtain ⟨f, f_lo, f_hi, rfl⟩ := inR_nat 0 4 kn_0 kn_4 (by decide) (by decide) c6
              have t_f : tN (nI f) = f := nI_clamp (by omega)
              refine z_iload_n hz dX10_does_60 3 rfl rfl ?_
              refine z_iconst hz 0 dX10_does_61 ki_0 ?_
              refine z_iload hz dX10_does_62 4 rfl ?_
              refine z_callRD (st2 := [.int (zB (inR v 0 2399))]) hz zKp.mt (zk_S hz (rm := (zRm 0 0 0 0)) (As := [.int v, .int 0, .int 2399]) (rest := []) 3 q2023 q2024 q95 q2025 (by decide +kernel) ⟨Nat.le_of_ble_eq_true rfl, Nat.le_of_ble_eq_true rfl⟩ ⟨Nat.le_of_ble_eq_true rfl, Nat.le_of_ble_eq_true rfl⟩ rfl rfl (Nat.le_of_ble_eq_true rfl) dX10_does_64) (mM_within v 0 2399) (fun _ _ _ => zP0) rfl ?_
              refine z_ifB_ne hz 77 dX10_does_67 (by decide) (fun c7 => ?_) (fun c7 => ?_)
              · refine z_iload_n hz dX10_does_77 2 rfl rfl ?_
                refine z_ifN_neT hz rfl (by omega) 101 dX10_does_78 (by decide) (fun h => c1 (by rw [h]; rfl)) ?_
                refine z_aload_n hz dX10_does_101 0 rfl rfl ?_
                refine z_bipush hz 36 dX10_does_102 kb_36 ?_
                refine z_iconst hz 5 dX10_does_104 ki_5 ?_
                refine z_iload_n hz dX10_does_105 1 rfl rfl ?_
                refine z_imulN hz kn_5 rfl dX10_does_106 ?_
                refine z_iaddN hz kn_36 rfl dX10_does_107 ?_
                refine z_iload_n hz dX10_does_108 2 rfl rfl ?_
                refine z_iaddN hz rfl rfl dX10_does_109 ?_
                refine z_iload_n hz dX10_does_110 3 rfl rfl ?_
                refine z_callD (bs2 := [zO (ad 99) 10 (mFs ad iv), zI (G.2.2.1 0) (ad 0) 602 (upd g ((36 + (5 * j)) + f) v), zI (G.2.2.1 0) (ad 4) 6 er]) (st2 := [.int (g ((36 + (5 * j)) + f))]) hz hA (zk_V hz (rm := (zRm 0 0 0 0)) (As := [.int (nI ((36 + (5 * j)) + f)), .int v]) (rest := []) 2 q2027 q2029 qs34 q95 q2030 (by decide +kernel) ⟨Nat.le_of_ble_eq_true rfl, Nat.le_of_ble_eq_true rfl⟩ ⟨Nat.le_of_ble_eq_true rfl, Nat.le_of_ble_eq_true rfl⟩ (zRecv (q := (RX10, TX10, 29)) hz (zAt.mt 0 0 rfl rfl) rfl) rfl rfl (Nat.le_of_ble_eq_true rfl) dX10_does_111) (mM_become ad iv g ((36 + (5 * j)) + f) v (by omega)) [0, 1] rfl (by decide) rfl rfl ?_
                exact z_iret hQ hz hr hlk dX10_does_114 (by
                  have e9 : sDoes g (nI j) (nI f) v = (0, g ((36 + (5 * j)) + f), upd g ((36 + (5 * j)) + f) v) := by simp [sDoes, mostF, tN_0, tN_1, tN_2, tN_3, inR, nI_clamp, c1, c2, c3, c4, c5, c6, c7, t_j, t_f]
                  rw [e9]; exact ⟨rfl, rfl⟩)
              · refine z_aload_n hz dX10_does_70 0 rfl rfl ?_
                refine z_ldc hz q2031 dX10_does_71 ?_
                refine z_callD (bs2 := [zO (ad 99) 10 (mFs ad iv), zI (G.2.2.1 0) (ad 0) 602 g, zI (G.2.2.1 0) (ad 4) 6 (upd er 1 (er 1 + 1))]) (st2 := [.int (-1000001)]) hz hA (zk_V hz (rm := (zRm 0 0 0 0)) (As := [.int (-1000001)]) (rest := []) 1 q2032 q2034 qs35 q95 q2035 (by decide +kernel) ⟨Nat.le_of_ble_eq_true rfl, Nat.le_of_ble_eq_true rfl⟩ ⟨Nat.le_of_ble_eq_true rfl, Nat.le_of_ble_eq_true rfl⟩ (zRecv (q := (RX10, TX10, 29)) hz (zAt.mt 0 0 rfl rfl) rfl) rfl rfl (Nat.le_of_ble_eq_true rfl) dX10_does_73) (mM_finding ad iv er (-1000001) 1 (by decide) (by decide)) [0, 2] rfl (by decide) rfl rfl ?_
                exact z_iret hQ hz hr hlk dX10_does_76 (by
                  have e9 : sDoes g (nI j) (nI f) v = (1, 0, g) := by simp [sDoes, mostF, tN_0, tN_1, tN_2, tN_3, inR, nI_clamp, c1, c2, c3, c4, c5, c6, c7, t_j, t_f]
                  rw [e9]; exact ⟨congrArg (fun z => some (Value.int z)) rE1, rfl⟩)
        · subst c4
          refine z_iconst hz 1 dX10_does_33 ki_1 ?_
          refine z_goto hz 40 dX10_does_34 (by decide) ?_
          refine z_istore (lv' := [(0, .ref (ad 99)), (1, .int man), (2, .int 3), (3, .int v), (4, .int 1)]) hz [1, 2, 3, 4, 0] dX10_does_40 (by decide) rfl ?_
          refine z_aload_n hz dX10_does_42 0 rfl rfl ?_
          refine z_iload_n hz dX10_does_43 1 rfl rfl ?_
          refine z_iconst hz 1 dX10_does_44 ki_1 ?_
          refine z_callRD (st2 := [.int (zB (inR man 0 (g 1 - 1)))]) hz zKp.mt (zk_V hz (rm := (zRm 1 0 0 30)) (As := [.int man, .int 1]) (rest := []) 2 q2053 q2055 qs37 q95 q2056 (by decide +kernel) ⟨Nat.le_of_ble_eq_true rfl, Nat.le_of_ble_eq_true rfl⟩ ⟨Nat.le_of_ble_eq_true rfl, Nat.le_of_ble_eq_true rfl⟩ (zRecv (q := (RX10, TX10, 29)) hz (zAt.mt 0 0 rfl rfl) rfl) rfl rfl (Nat.le_of_ble_eq_true rfl) dX10_does_45) (mM_is ad iv g man 1 (by decide)) (fun H9 L9 h9 => (zPc (zAt.mt 0 0 rfl rfl) h9 (zPc (zAt.mt 1 0 rfl rfl) h9 zP0))) rfl ?_
          refine z_ifB_eq hz 70 dX10_does_48 (by decide) (fun c8 => ?_) (fun c8 => ?_)
          · refine z_aload_n hz dX10_does_70 0 rfl rfl ?_
            refine z_ldc hz q2031 dX10_does_71 ?_
            refine z_callD (bs2 := [zO (ad 99) 10 (mFs ad iv), zI (G.2.2.1 0) (ad 0) 602 g, zI (G.2.2.1 0) (ad 4) 6 (upd er 1 (er 1 + 1))]) (st2 := [.int (-1000001)]) hz hA (zk_V hz (rm := (zRm 0 0 0 0)) (As := [.int (-1000001)]) (rest := []) 1 q2032 q2034 qs35 q95 q2035 (by decide +kernel) ⟨Nat.le_of_ble_eq_true rfl, Nat.le_of_ble_eq_true rfl⟩ ⟨Nat.le_of_ble_eq_true rfl, Nat.le_of_ble_eq_true rfl⟩ (zRecv (q := (RX10, TX10, 29)) hz (zAt.mt 0 0 rfl rfl) rfl) rfl rfl (Nat.le_of_ble_eq_true rfl) dX10_does_73) (mM_finding ad iv er (-1000001) 1 (by decide) (by decide)) [0, 2] rfl (by decide) rfl rfl ?_
            exact z_iret hQ hz hr hlk dX10_does_76 (by
              have e9 : sDoes g man 3 v = (1, 0, g) := by simp [sDoes, mostF, tN_0, tN_1, tN_2, tN_3, inR, nI_clamp, c1, c2, c3, c8]
              rw [e9]; exact ⟨congrArg (fun z => some (Value.int z)) rE1, rfl⟩)
          · obtain ⟨j, j_lt, rfl⟩ := is_nat hnm (by omega) c8
            have t_j : tN (nI j) = j := nI_clamp (by omega)
            refine z_iload_n hz dX10_does_51 2 rfl rfl ?_
            refine z_iconst hz 0 dX10_does_52 ki_0 ?_
            refine z_iconst hz 4 dX10_does_53 ki_4 ?_
            refine z_callRD (st2 := [.int (zB (inR 3 0 4))]) hz zKp.mt (zk_S hz (rm := (zRm 0 0 0 0)) (As := [.int 3, .int 0, .int 4]) (rest := []) 3 q2023 q2024 q95 q2025 (by decide +kernel) ⟨Nat.le_of_ble_eq_true rfl, Nat.le_of_ble_eq_true rfl⟩ ⟨Nat.le_of_ble_eq_true rfl, Nat.le_of_ble_eq_true rfl⟩ rfl rfl (Nat.le_of_ble_eq_true rfl) dX10_does_54) (mM_within 3 0 4) (fun _ _ _ => zP0) rfl ?_
            refine z_ifB_eqF hz 70 dX10_does_57 (by decide) (by decide) ?_
            refine z_iload_n hz dX10_does_60 3 rfl rfl ?_
            refine z_iconst hz 0 dX10_does_61 ki_0 ?_
            refine z_iload hz dX10_does_62 4 rfl ?_
            refine z_callRD (st2 := [.int (zB (inR v 0 1))]) hz zKp.mt (zk_S hz (rm := (zRm 0 0 0 0)) (As := [.int v, .int 0, .int 1]) (rest := []) 3 q2023 q2024 q95 q2025 (by decide +kernel) ⟨Nat.le_of_ble_eq_true rfl, Nat.le_of_ble_eq_true rfl⟩ ⟨Nat.le_of_ble_eq_true rfl, Nat.le_of_ble_eq_true rfl⟩ rfl rfl (Nat.le_of_ble_eq_true rfl) dX10_does_64) (mM_within v 0 1) (fun _ _ _ => zP0) rfl ?_
            refine z_ifB_ne hz 77 dX10_does_67 (by decide) (fun c9 => ?_) (fun c9 => ?_)
            · refine z_iload_n hz dX10_does_77 2 rfl rfl ?_
              refine z_if_neT hz 101 dX10_does_78 (by decide) (by decide) ?_
              refine z_aload_n hz dX10_does_101 0 rfl rfl ?_
              refine z_bipush hz 36 dX10_does_102 kb_36 ?_
              refine z_iconst hz 5 dX10_does_104 ki_5 ?_
              refine z_iload_n hz dX10_does_105 1 rfl rfl ?_
              refine z_imulN hz kn_5 rfl dX10_does_106 ?_
              refine z_iaddN hz kn_36 rfl dX10_does_107 ?_
              refine z_iload_n hz dX10_does_108 2 rfl rfl ?_
              refine z_iaddN hz rfl kn_3 dX10_does_109 ?_
              refine z_iload_n hz dX10_does_110 3 rfl rfl ?_
              refine z_callD (bs2 := [zO (ad 99) 10 (mFs ad iv), zI (G.2.2.1 0) (ad 0) 602 (upd g ((36 + (5 * j)) + 3) v), zI (G.2.2.1 0) (ad 4) 6 er]) (st2 := [.int (g ((36 + (5 * j)) + 3))]) hz hA (zk_V hz (rm := (zRm 0 0 0 0)) (As := [.int (nI ((36 + (5 * j)) + 3)), .int v]) (rest := []) 2 q2027 q2029 qs34 q95 q2030 (by decide +kernel) ⟨Nat.le_of_ble_eq_true rfl, Nat.le_of_ble_eq_true rfl⟩ ⟨Nat.le_of_ble_eq_true rfl, Nat.le_of_ble_eq_true rfl⟩ (zRecv (q := (RX10, TX10, 29)) hz (zAt.mt 0 0 rfl rfl) rfl) rfl rfl (Nat.le_of_ble_eq_true rfl) dX10_does_111) (mM_become ad iv g ((36 + (5 * j)) + 3) v (by omega)) [0, 1] rfl (by decide) rfl rfl ?_
              exact z_iret hQ hz hr hlk dX10_does_114 (by
                have e9 : sDoes g (nI j) 3 v = (0, g ((36 + (5 * j)) + 3), upd g ((36 + (5 * j)) + 3) v) := by simp [sDoes, mostF, tN_0, tN_1, tN_2, tN_3, inR, nI_clamp, c1, c2, c3, c8, c9, t_j]
                rw [e9]; exact ⟨rfl, rfl⟩)
            · refine z_aload_n hz dX10_does_70 0 rfl rfl ?_
              refine z_ldc hz q2031 dX10_does_71 ?_
              refine z_callD (bs2 := [zO (ad 99) 10 (mFs ad iv), zI (G.2.2.1 0) (ad 0) 602 g, zI (G.2.2.1 0) (ad 4) 6 (upd er 1 (er 1 + 1))]) (st2 := [.int (-1000001)]) hz hA (zk_V hz (rm := (zRm 0 0 0 0)) (As := [.int (-1000001)]) (rest := []) 1 q2032 q2034 qs35 q95 q2035 (by decide +kernel) ⟨Nat.le_of_ble_eq_true rfl, Nat.le_of_ble_eq_true rfl⟩ ⟨Nat.le_of_ble_eq_true rfl, Nat.le_of_ble_eq_true rfl⟩ (zRecv (q := (RX10, TX10, 29)) hz (zAt.mt 0 0 rfl rfl) rfl) rfl rfl (Nat.le_of_ble_eq_true rfl) dX10_does_73) (mM_finding ad iv er (-1000001) 1 (by decide) (by decide)) [0, 2] rfl (by decide) rfl rfl ?_
              exact z_iret hQ hz hr hlk dX10_does_76 (by
                have e9 : sDoes g (nI j) 3 v = (1, 0, g) := by simp [sDoes, mostF, tN_0, tN_1, tN_2, tN_3, inR, nI_clamp, c1, c2, c3, c8, c9, t_j]
                rw [e9]; exact ⟨congrArg (fun z => some (Value.int z)) rE1, rfl⟩)
      · subst c3
        refine z_bipush hz 9 dX10_does_23 kb_9 ?_
        refine z_goto hz 40 dX10_does_25 (by decide) ?_
        refine z_istore (lv' := [(0, .ref (ad 99)), (1, .int man), (2, .int 2), (3, .int v), (4, .int 9)]) hz [1, 2, 3, 4, 0] dX10_does_40 (by decide) rfl ?_
        refine z_aload_n hz dX10_does_42 0 rfl rfl ?_
        refine z_iload_n hz dX10_does_43 1 rfl rfl ?_
        refine z_iconst hz 1 dX10_does_44 ki_1 ?_
        refine z_callRD (st2 := [.int (zB (inR man 0 (g 1 - 1)))]) hz zKp.mt (zk_V hz (rm := (zRm 1 0 0 30)) (As := [.int man, .int 1]) (rest := []) 2 q2053 q2055 qs37 q95 q2056 (by decide +kernel) ⟨Nat.le_of_ble_eq_true rfl, Nat.le_of_ble_eq_true rfl⟩ ⟨Nat.le_of_ble_eq_true rfl, Nat.le_of_ble_eq_true rfl⟩ (zRecv (q := (RX10, TX10, 29)) hz (zAt.mt 0 0 rfl rfl) rfl) rfl rfl (Nat.le_of_ble_eq_true rfl) dX10_does_45) (mM_is ad iv g man 1 (by decide)) (fun H9 L9 h9 => (zPc (zAt.mt 0 0 rfl rfl) h9 (zPc (zAt.mt 1 0 rfl rfl) h9 zP0))) rfl ?_
        refine z_ifB_eq hz 70 dX10_does_48 (by decide) (fun c10 => ?_) (fun c10 => ?_)
        · refine z_aload_n hz dX10_does_70 0 rfl rfl ?_
          refine z_ldc hz q2031 dX10_does_71 ?_
          refine z_callD (bs2 := [zO (ad 99) 10 (mFs ad iv), zI (G.2.2.1 0) (ad 0) 602 g, zI (G.2.2.1 0) (ad 4) 6 (upd er 1 (er 1 + 1))]) (st2 := [.int (-1000001)]) hz hA (zk_V hz (rm := (zRm 0 0 0 0)) (As := [.int (-1000001)]) (rest := []) 1 q2032 q2034 qs35 q95 q2035 (by decide +kernel) ⟨Nat.le_of_ble_eq_true rfl, Nat.le_of_ble_eq_true rfl⟩ ⟨Nat.le_of_ble_eq_true rfl, Nat.le_of_ble_eq_true rfl⟩ (zRecv (q := (RX10, TX10, 29)) hz (zAt.mt 0 0 rfl rfl) rfl) rfl rfl (Nat.le_of_ble_eq_true rfl) dX10_does_73) (mM_finding ad iv er (-1000001) 1 (by decide) (by decide)) [0, 2] rfl (by decide) rfl rfl ?_
          exact z_iret hQ hz hr hlk dX10_does_76 (by
            have e9 : sDoes g man 2 v = (1, 0, g) := by simp [sDoes, mostF, tN_0, tN_1, tN_2, tN_3, inR, nI_clamp, c1, c2, c10]
            rw [e9]; exact ⟨congrArg (fun z => some (Value.int z)) rE1, rfl⟩)
        · obtain ⟨j, j_lt, rfl⟩ := is_nat hnm (by omega) c10
          have t_j : tN (nI j) = j := nI_clamp (by omega)
          refine z_iload_n hz dX10_does_51 2 rfl rfl ?_
          refine z_iconst hz 0 dX10_does_52 ki_0 ?_
          refine z_iconst hz 4 dX10_does_53 ki_4 ?_
          refine z_callRD (st2 := [.int (zB (inR 2 0 4))]) hz zKp.mt (zk_S hz (rm := (zRm 0 0 0 0)) (As := [.int 2, .int 0, .int 4]) (rest := []) 3 q2023 q2024 q95 q2025 (by decide +kernel) ⟨Nat.le_of_ble_eq_true rfl, Nat.le_of_ble_eq_true rfl⟩ ⟨Nat.le_of_ble_eq_true rfl, Nat.le_of_ble_eq_true rfl⟩ rfl rfl (Nat.le_of_ble_eq_true rfl) dX10_does_54) (mM_within 2 0 4) (fun _ _ _ => zP0) rfl ?_
          refine z_ifB_eqF hz 70 dX10_does_57 (by decide) (by decide) ?_
          refine z_iload_n hz dX10_does_60 3 rfl rfl ?_
          refine z_iconst hz 0 dX10_does_61 ki_0 ?_
          refine z_iload hz dX10_does_62 4 rfl ?_
          refine z_callRD (st2 := [.int (zB (inR v 0 9))]) hz zKp.mt (zk_S hz (rm := (zRm 0 0 0 0)) (As := [.int v, .int 0, .int 9]) (rest := []) 3 q2023 q2024 q95 q2025 (by decide +kernel) ⟨Nat.le_of_ble_eq_true rfl, Nat.le_of_ble_eq_true rfl⟩ ⟨Nat.le_of_ble_eq_true rfl, Nat.le_of_ble_eq_true rfl⟩ rfl rfl (Nat.le_of_ble_eq_true rfl) dX10_does_64) (mM_within v 0 9) (fun _ _ _ => zP0) rfl ?_
          refine z_ifB_ne hz 77 dX10_does_67 (by decide) (fun c11 => ?_) (fun c11 => ?_)
          · refine z_iload_n hz dX10_does_77 2 rfl rfl ?_
            refine z_if_neT hz 101 dX10_does_78 (by decide) (by decide) ?_
            refine z_aload_n hz dX10_does_101 0 rfl rfl ?_
            refine z_bipush hz 36 dX10_does_102 kb_36 ?_
            refine z_iconst hz 5 dX10_does_104 ki_5 ?_
            refine z_iload_n hz dX10_does_105 1 rfl rfl ?_
            refine z_imulN hz kn_5 rfl dX10_does_106 ?_
            refine z_iaddN hz kn_36 rfl dX10_does_107 ?_
            refine z_iload_n hz dX10_does_108 2 rfl rfl ?_
            refine z_iaddN hz rfl kn_2 dX10_does_109 ?_
            refine z_iload_n hz dX10_does_110 3 rfl rfl ?_
            refine z_callD (bs2 := [zO (ad 99) 10 (mFs ad iv), zI (G.2.2.1 0) (ad 0) 602 (upd g ((36 + (5 * j)) + 2) v), zI (G.2.2.1 0) (ad 4) 6 er]) (st2 := [.int (g ((36 + (5 * j)) + 2))]) hz hA (zk_V hz (rm := (zRm 0 0 0 0)) (As := [.int (nI ((36 + (5 * j)) + 2)), .int v]) (rest := []) 2 q2027 q2029 qs34 q95 q2030 (by decide +kernel) ⟨Nat.le_of_ble_eq_true rfl, Nat.le_of_ble_eq_true rfl⟩ ⟨Nat.le_of_ble_eq_true rfl, Nat.le_of_ble_eq_true rfl⟩ (zRecv (q := (RX10, TX10, 29)) hz (zAt.mt 0 0 rfl rfl) rfl) rfl rfl (Nat.le_of_ble_eq_true rfl) dX10_does_111) (mM_become ad iv g ((36 + (5 * j)) + 2) v (by omega)) [0, 1] rfl (by decide) rfl rfl ?_
            exact z_iret hQ hz hr hlk dX10_does_114 (by
              have e9 : sDoes g (nI j) 2 v = (0, g ((36 + (5 * j)) + 2), upd g ((36 + (5 * j)) + 2) v) := by simp [sDoes, mostF, tN_0, tN_1, tN_2, tN_3, inR, nI_clamp, c1, c2, c10, c11, t_j]
              rw [e9]; exact ⟨rfl, rfl⟩)
          · refine z_aload_n hz dX10_does_70 0 rfl rfl ?_
            refine z_ldc hz q2031 dX10_does_71 ?_
            refine z_callD (bs2 := [zO (ad 99) 10 (mFs ad iv), zI (G.2.2.1 0) (ad 0) 602 g, zI (G.2.2.1 0) (ad 4) 6 (upd er 1 (er 1 + 1))]) (st2 := [.int (-1000001)]) hz hA (zk_V hz (rm := (zRm 0 0 0 0)) (As := [.int (-1000001)]) (rest := []) 1 q2032 q2034 qs35 q95 q2035 (by decide +kernel) ⟨Nat.le_of_ble_eq_true rfl, Nat.le_of_ble_eq_true rfl⟩ ⟨Nat.le_of_ble_eq_true rfl, Nat.le_of_ble_eq_true rfl⟩ (zRecv (q := (RX10, TX10, 29)) hz (zAt.mt 0 0 rfl rfl) rfl) rfl rfl (Nat.le_of_ble_eq_true rfl) dX10_does_73) (mM_finding ad iv er (-1000001) 1 (by decide) (by decide)) [0, 2] rfl (by decide) rfl rfl ?_
            exact z_iret hQ hz hr hlk dX10_does_76 (by
              have e9 : sDoes g (nI j) 2 v = (1, 0, g) := by simp [sDoes, mostF, tN_0, tN_1, tN_2, tN_3, inR, nI_clamp, c1, c2, c10, c11, t_j]
              rw [e9]; exact ⟨congrArg (fun z => some (Value.int z)) rE1, rfl⟩)
    · subst c2
      refine z_iconst hz 2 dX10_does_14 ki_2 ?_
      refine z_goto hz 40 dX10_does_15 (by decide) ?_
      refine z_istore (lv' := [(0, .ref (ad 99)), (1, .int man), (2, .int 1), (3, .int v), (4, .int 2)]) hz [1, 2, 3, 4, 0] dX10_does_40 (by decide) rfl ?_
      refine z_aload_n hz dX10_does_42 0 rfl rfl ?_
      refine z_iload_n hz dX10_does_43 1 rfl rfl ?_
      refine z_iconst hz 1 dX10_does_44 ki_1 ?_
      refine z_callRD (st2 := [.int (zB (inR man 0 (g 1 - 1)))]) hz zKp.mt (zk_V hz (rm := (zRm 1 0 0 30)) (As := [.int man, .int 1]) (rest := []) 2 q2053 q2055 qs37 q95 q2056 (by decide +kernel) ⟨Nat.le_of_ble_eq_true rfl, Nat.le_of_ble_eq_true rfl⟩ ⟨Nat.le_of_ble_eq_true rfl, Nat.le_of_ble_eq_true rfl⟩ (zRecv (q := (RX10, TX10, 29)) hz (zAt.mt 0 0 rfl rfl) rfl) rfl rfl (Nat.le_of_ble_eq_true rfl) dX10_does_45) (mM_is ad iv g man 1 (by decide)) (fun H9 L9 h9 => (zPc (zAt.mt 0 0 rfl rfl) h9 (zPc (zAt.mt 1 0 rfl rfl) h9 zP0))) rfl ?_
      refine z_ifB_eq hz 70 dX10_does_48 (by decide) (fun c12 => ?_) (fun c12 => ?_)
      · refine z_aload_n hz dX10_does_70 0 rfl rfl ?_
        refine z_ldc hz q2031 dX10_does_71 ?_
        refine z_callD (bs2 := [zO (ad 99) 10 (mFs ad iv), zI (G.2.2.1 0) (ad 0) 602 g, zI (G.2.2.1 0) (ad 4) 6 (upd er 1 (er 1 + 1))]) (st2 := [.int (-1000001)]) hz hA (zk_V hz (rm := (zRm 0 0 0 0)) (As := [.int (-1000001)]) (rest := []) 1 q2032 q2034 qs35 q95 q2035 (by decide +kernel) ⟨Nat.le_of_ble_eq_true rfl, Nat.le_of_ble_eq_true rfl⟩ ⟨Nat.le_of_ble_eq_true rfl, Nat.le_of_ble_eq_true rfl⟩ (zRecv (q := (RX10, TX10, 29)) hz (zAt.mt 0 0 rfl rfl) rfl) rfl rfl (Nat.le_of_ble_eq_true rfl) dX10_does_73) (mM_finding ad iv er (-1000001) 1 (by decide) (by decide)) [0, 2] rfl (by decide) rfl rfl ?_
        exact z_iret hQ hz hr hlk dX10_does_76 (by
          have e9 : sDoes g man 1 v = (1, 0, g) := by simp [sDoes, mostF, tN_0, tN_1, tN_2, tN_3, inR, nI_clamp, c1, c12]
          rw [e9]; exact ⟨congrArg (fun z => some (Value.int z)) rE1, rfl⟩)
      · obtain ⟨j, j_lt, rfl⟩ := is_nat hnm (by omega) c12
        have t_j : tN (nI j) = j := nI_clamp (by omega)
        refine z_iload_n hz dX10_does_51 2 rfl rfl ?_
        refine z_iconst hz 0 dX10_does_52 ki_0 ?_
        refine z_iconst hz 4 dX10_does_53 ki_4 ?_
        refine z_callRD (st2 := [.int (zB (inR 1 0 4))]) hz zKp.mt (zk_S hz (rm := (zRm 0 0 0 0)) (As := [.int 1, .int 0, .int 4]) (rest := []) 3 q2023 q2024 q95 q2025 (by decide +kernel) ⟨Nat.le_of_ble_eq_true rfl, Nat.le_of_ble_eq_true rfl⟩ ⟨Nat.le_of_ble_eq_true rfl, Nat.le_of_ble_eq_true rfl⟩ rfl rfl (Nat.le_of_ble_eq_true rfl) dX10_does_54) (mM_within 1 0 4) (fun _ _ _ => zP0) rfl ?_
        refine z_ifB_eqF hz 70 dX10_does_57 (by decide) (by decide) ?_
        refine z_iload_n hz dX10_does_60 3 rfl rfl ?_
        refine z_iconst hz 0 dX10_does_61 ki_0 ?_
        refine z_iload hz dX10_does_62 4 rfl ?_
        refine z_callRD (st2 := [.int (zB (inR v 0 2))]) hz zKp.mt (zk_S hz (rm := (zRm 0 0 0 0)) (As := [.int v, .int 0, .int 2]) (rest := []) 3 q2023 q2024 q95 q2025 (by decide +kernel) ⟨Nat.le_of_ble_eq_true rfl, Nat.le_of_ble_eq_true rfl⟩ ⟨Nat.le_of_ble_eq_true rfl, Nat.le_of_ble_eq_true rfl⟩ rfl rfl (Nat.le_of_ble_eq_true rfl) dX10_does_64) (mM_within v 0 2) (fun _ _ _ => zP0) rfl ?_
        refine z_ifB_ne hz 77 dX10_does_67 (by decide) (fun c13 => ?_) (fun c13 => ?_)
        · refine z_iload_n hz dX10_does_77 2 rfl rfl ?_
          refine z_if_neT hz 101 dX10_does_78 (by decide) (by decide) ?_
          refine z_aload_n hz dX10_does_101 0 rfl rfl ?_
          refine z_bipush hz 36 dX10_does_102 kb_36 ?_
          refine z_iconst hz 5 dX10_does_104 ki_5 ?_
          refine z_iload_n hz dX10_does_105 1 rfl rfl ?_
          refine z_imulN hz kn_5 rfl dX10_does_106 ?_
          refine z_iaddN hz kn_36 rfl dX10_does_107 ?_
          refine z_iload_n hz dX10_does_108 2 rfl rfl ?_
          refine z_iaddN hz rfl kn_1 dX10_does_109 ?_
          refine z_iload_n hz dX10_does_110 3 rfl rfl ?_
          refine z_callD (bs2 := [zO (ad 99) 10 (mFs ad iv), zI (G.2.2.1 0) (ad 0) 602 (upd g ((36 + (5 * j)) + 1) v), zI (G.2.2.1 0) (ad 4) 6 er]) (st2 := [.int (g ((36 + (5 * j)) + 1))]) hz hA (zk_V hz (rm := (zRm 0 0 0 0)) (As := [.int (nI ((36 + (5 * j)) + 1)), .int v]) (rest := []) 2 q2027 q2029 qs34 q95 q2030 (by decide +kernel) ⟨Nat.le_of_ble_eq_true rfl, Nat.le_of_ble_eq_true rfl⟩ ⟨Nat.le_of_ble_eq_true rfl, Nat.le_of_ble_eq_true rfl⟩ (zRecv (q := (RX10, TX10, 29)) hz (zAt.mt 0 0 rfl rfl) rfl) rfl rfl (Nat.le_of_ble_eq_true rfl) dX10_does_111) (mM_become ad iv g ((36 + (5 * j)) + 1) v (by omega)) [0, 1] rfl (by decide) rfl rfl ?_
          exact z_iret hQ hz hr hlk dX10_does_114 (by
            have e9 : sDoes g (nI j) 1 v = (0, g ((36 + (5 * j)) + 1), upd g ((36 + (5 * j)) + 1) v) := by simp [sDoes, mostF, tN_0, tN_1, tN_2, tN_3, inR, nI_clamp, c1, c12, c13, t_j]
            rw [e9]; exact ⟨rfl, rfl⟩)
        · refine z_aload_n hz dX10_does_70 0 rfl rfl ?_
          refine z_ldc hz q2031 dX10_does_71 ?_
          refine z_callD (bs2 := [zO (ad 99) 10 (mFs ad iv), zI (G.2.2.1 0) (ad 0) 602 g, zI (G.2.2.1 0) (ad 4) 6 (upd er 1 (er 1 + 1))]) (st2 := [.int (-1000001)]) hz hA (zk_V hz (rm := (zRm 0 0 0 0)) (As := [.int (-1000001)]) (rest := []) 1 q2032 q2034 qs35 q95 q2035 (by decide +kernel) ⟨Nat.le_of_ble_eq_true rfl, Nat.le_of_ble_eq_true rfl⟩ ⟨Nat.le_of_ble_eq_true rfl, Nat.le_of_ble_eq_true rfl⟩ (zRecv (q := (RX10, TX10, 29)) hz (zAt.mt 0 0 rfl rfl) rfl) rfl rfl (Nat.le_of_ble_eq_true rfl) dX10_does_73) (mM_finding ad iv er (-1000001) 1 (by decide) (by decide)) [0, 2] rfl (by decide) rfl rfl ?_
          exact z_iret hQ hz hr hlk dX10_does_76 (by
            have e9 : sDoes g (nI j) 1 v = (1, 0, g) := by simp [sDoes, mostF, tN_0, tN_1, tN_2, tN_3, inR, nI_clamp, c1, c12, c13, t_j]
            rw [e9]; exact ⟨congrArg (fun z => some (Value.int z)) rE1, rfl⟩)
  · subst c1
    refine z_bipush hz 10 dX10_does_4 kb_10 ?_
    refine z_goto hz 40 dX10_does_6 (by decide) ?_
    refine z_istore (lv' := [(0, .ref (ad 99)), (1, .int man), (2, .int 0), (3, .int v), (4, .int 10)]) hz [1, 2, 3, 4, 0] dX10_does_40 (by decide) rfl ?_
    refine z_aload_n hz dX10_does_42 0 rfl rfl ?_
    refine z_iload_n hz dX10_does_43 1 rfl rfl ?_
    refine z_iconst hz 1 dX10_does_44 ki_1 ?_
    refine z_callRD (st2 := [.int (zB (inR man 0 (g 1 - 1)))]) hz zKp.mt (zk_V hz (rm := (zRm 1 0 0 30)) (As := [.int man, .int 1]) (rest := []) 2 q2053 q2055 qs37 q95 q2056 (by decide +kernel) ⟨Nat.le_of_ble_eq_true rfl, Nat.le_of_ble_eq_true rfl⟩ ⟨Nat.le_of_ble_eq_true rfl, Nat.le_of_ble_eq_true rfl⟩ (zRecv (q := (RX10, TX10, 29)) hz (zAt.mt 0 0 rfl rfl) rfl) rfl rfl (Nat.le_of_ble_eq_true rfl) dX10_does_45) (mM_is ad iv g man 1 (by decide)) (fun H9 L9 h9 => (zPc (zAt.mt 0 0 rfl rfl) h9 (zPc (zAt.mt 1 0 rfl rfl) h9 zP0))) rfl ?_
    refine z_ifB_eq hz 70 dX10_does_48 (by decide) (fun c14 => ?_) (fun c14 => ?_)
    · refine z_aload_n hz dX10_does_70 0 rfl rfl ?_
      refine z_ldc hz q2031 dX10_does_71 ?_
      refine z_callD (bs2 := [zO (ad 99) 10 (mFs ad iv), zI (G.2.2.1 0) (ad 0) 602 g, zI (G.2.2.1 0) (ad 4) 6 (upd er 1 (er 1 + 1))]) (st2 := [.int (-1000001)]) hz hA (zk_V hz (rm := (zRm 0 0 0 0)) (As := [.int (-1000001)]) (rest := []) 1 q2032 q2034 qs35 q95 q2035 (by decide +kernel) ⟨Nat.le_of_ble_eq_true rfl, Nat.le_of_ble_eq_true rfl⟩ ⟨Nat.le_of_ble_eq_true rfl, Nat.le_of_ble_eq_true rfl⟩ (zRecv (q := (RX10, TX10, 29)) hz (zAt.mt 0 0 rfl rfl) rfl) rfl rfl (Nat.le_of_ble_eq_true rfl) dX10_does_73) (mM_finding ad iv er (-1000001) 1 (by decide) (by decide)) [0, 2] rfl (by decide) rfl rfl ?_
      exact z_iret hQ hz hr hlk dX10_does_76 (by
        have e9 : sDoes g man 0 v = (1, 0, g) := by simp [sDoes, mostF, tN_0, tN_1, tN_2, tN_3, inR, nI_clamp, c14]
        rw [e9]; exact ⟨congrArg (fun z => some (Value.int z)) rE1, rfl⟩)
    · obtain ⟨j, j_lt, rfl⟩ := is_nat hnm (by omega) c14
      have t_j : tN (nI j) = j := nI_clamp (by omega)
      refine z_iload_n hz dX10_does_51 2 rfl rfl ?_
      refine z_iconst hz 0 dX10_does_52 ki_0 ?_
      refine z_iconst hz 4 dX10_does_53 ki_4 ?_
      refine z_callRD (st2 := [.int (zB (inR 0 0 4))]) hz zKp.mt (zk_S hz (rm := (zRm 0 0 0 0)) (As := [.int 0, .int 0, .int 4]) (rest := []) 3 q2023 q2024 q95 q2025 (by decide +kernel) ⟨Nat.le_of_ble_eq_true rfl, Nat.le_of_ble_eq_true rfl⟩ ⟨Nat.le_of_ble_eq_true rfl, Nat.le_of_ble_eq_true rfl⟩ rfl rfl (Nat.le_of_ble_eq_true rfl) dX10_does_54) (mM_within 0 0 4) (fun _ _ _ => zP0) rfl ?_
      refine z_ifB_eqF hz 70 dX10_does_57 (by decide) (by decide) ?_
      refine z_iload_n hz dX10_does_60 3 rfl rfl ?_
      refine z_iconst hz 0 dX10_does_61 ki_0 ?_
      refine z_iload hz dX10_does_62 4 rfl ?_
      refine z_callRD (st2 := [.int (zB (inR v 0 10))]) hz zKp.mt (zk_S hz (rm := (zRm 0 0 0 0)) (As := [.int v, .int 0, .int 10]) (rest := []) 3 q2023 q2024 q95 q2025 (by decide +kernel) ⟨Nat.le_of_ble_eq_true rfl, Nat.le_of_ble_eq_true rfl⟩ ⟨Nat.le_of_ble_eq_true rfl, Nat.le_of_ble_eq_true rfl⟩ rfl rfl (Nat.le_of_ble_eq_true rfl) dX10_does_64) (mM_within v 0 10) (fun _ _ _ => zP0) rfl ?_
      refine z_ifB_ne hz 77 dX10_does_67 (by decide) (fun c15 => ?_) (fun c15 => ?_)
      · refine z_iload_n hz dX10_does_77 2 rfl rfl ?_
        refine z_if_neF hz 101 dX10_does_78 (by decide) (by decide) ?_
        refine z_aload_n hz dX10_does_81 0 rfl rfl ?_
        refine z_iload_n hz dX10_does_82 1 rfl rfl ?_
        refine z_iconst hz 0 dX10_does_83 ki_0 ?_
        refine z_callRD (st2 := [.int (g (36 + 5 * j))]) hz zKp.mt (zk_V hz (rm := (zRm 0 0 0 0)) (As := [.int (nI j), .int 0]) (rest := []) 2 q2057 q2059 qs38 q95 q2060 (by decide +kernel) ⟨Nat.le_of_ble_eq_true rfl, Nat.le_of_ble_eq_true rfl⟩ ⟨Nat.le_of_ble_eq_true rfl, Nat.le_of_ble_eq_true rfl⟩ (zRecv (q := (RX10, TX10, 29)) hz (zAt.mt 0 0 rfl rfl) rfl) rfl rfl (Nat.le_of_ble_eq_true rfl) dX10_does_84) (mM_man2 ad iv g j 0 (by omega)) (fun H9 L9 h9 => (zPc (zAt.mt 0 0 rfl rfl) h9 (zPc (zAt.mt 1 0 rfl rfl) h9 zP0))) rfl ?_
        refine z_bipush hz 10 dX10_does_87 kb_10 ?_
        refine z_icmp_ne hz 101 dX10_does_89 (by decide) (fun c16 => ?_) (fun c16 => ?_)
        · refine z_aload_n hz dX10_does_101 0 rfl rfl ?_
          refine z_bipush hz 36 dX10_does_102 kb_36 ?_
          refine z_iconst hz 5 dX10_does_104 ki_5 ?_
          refine z_iload_n hz dX10_does_105 1 rfl rfl ?_
          refine z_imulN hz kn_5 rfl dX10_does_106 ?_
          refine z_iaddN hz kn_36 rfl dX10_does_107 ?_
          refine z_iload_n hz dX10_does_108 2 rfl rfl ?_
          refine z_iaddN hz rfl kn_0 dX10_does_109 ?_
          refine z_iload_n hz dX10_does_110 3 rfl rfl ?_
          refine z_callD (bs2 := [zO (ad 99) 10 (mFs ad iv), zI (G.2.2.1 0) (ad 0) 602 (upd g (36 + (5 * j)) v), zI (G.2.2.1 0) (ad 4) 6 er]) (st2 := [.int (g (36 + (5 * j)))]) hz hA (zk_V hz (rm := (zRm 0 0 0 0)) (As := [.int (nI (36 + (5 * j))), .int v]) (rest := []) 2 q2027 q2029 qs34 q95 q2030 (by decide +kernel) ⟨Nat.le_of_ble_eq_true rfl, Nat.le_of_ble_eq_true rfl⟩ ⟨Nat.le_of_ble_eq_true rfl, Nat.le_of_ble_eq_true rfl⟩ (zRecv (q := (RX10, TX10, 29)) hz (zAt.mt 0 0 rfl rfl) rfl) rfl rfl (Nat.le_of_ble_eq_true rfl) dX10_does_111) (mM_become ad iv g (36 + (5 * j)) v (by omega)) [0, 1] rfl (by decide) rfl rfl ?_
          exact z_iret hQ hz hr hlk dX10_does_114 (by
            have e9 : sDoes g (nI j) 0 v = (0, g (36 + (5 * j)), upd g (36 + (5 * j)) v) := by simp [sDoes, mostF, tN_0, tN_1, tN_2, tN_3, inR, nI_clamp, c14, c15, c16, t_j]
            rw [e9]; exact ⟨rfl, rfl⟩)
        · refine z_aload_n hz dX10_does_92 0 rfl rfl ?_
          refine z_ldc hz q2061 dX10_does_93 ?_
          refine z_callD (bs2 := [zO (ad 99) 10 (mFs ad iv), zI (G.2.2.1 0) (ad 0) 602 g, zI (G.2.2.1 0) (ad 4) 6 (upd er 3 (er 3 + 1))]) (st2 := [.int (-1000003)]) hz hA (zk_V hz (rm := (zRm 0 0 0 0)) (As := [.int (-1000003)]) (rest := []) 1 q2032 q2034 qs35 q95 q2035 (by decide +kernel) ⟨Nat.le_of_ble_eq_true rfl, Nat.le_of_ble_eq_true rfl⟩ ⟨Nat.le_of_ble_eq_true rfl, Nat.le_of_ble_eq_true rfl⟩ (zRecv (q := (RX10, TX10, 29)) hz (zAt.mt 0 0 rfl rfl) rfl) rfl rfl (Nat.le_of_ble_eq_true rfl) dX10_does_95) (mM_finding ad iv er (-1000003) 3 (by decide) (by decide)) [0, 2] rfl (by decide) rfl rfl ?_
          refine z_goto hz 114 dX10_does_98 (by decide) ?_
          exact z_iret hQ hz hr hlk dX10_does_114 (by
            have e9 : sDoes g (nI j) 0 v = (3, 0, g) := by simp [sDoes, mostF, tN_0, tN_1, tN_2, tN_3, inR, nI_clamp, c14, c15, c16, t_j]
            rw [e9]; exact ⟨congrArg (fun z => some (Value.int z)) rE3, rfl⟩)
      · refine z_aload_n hz dX10_does_70 0 rfl rfl ?_
        refine z_ldc hz q2031 dX10_does_71 ?_
        refine z_callD (bs2 := [zO (ad 99) 10 (mFs ad iv), zI (G.2.2.1 0) (ad 0) 602 g, zI (G.2.2.1 0) (ad 4) 6 (upd er 1 (er 1 + 1))]) (st2 := [.int (-1000001)]) hz hA (zk_V hz (rm := (zRm 0 0 0 0)) (As := [.int (-1000001)]) (rest := []) 1 q2032 q2034 qs35 q95 q2035 (by decide +kernel) ⟨Nat.le_of_ble_eq_true rfl, Nat.le_of_ble_eq_true rfl⟩ ⟨Nat.le_of_ble_eq_true rfl, Nat.le_of_ble_eq_true rfl⟩ (zRecv (q := (RX10, TX10, 29)) hz (zAt.mt 0 0 rfl rfl) rfl) rfl rfl (Nat.le_of_ble_eq_true rfl) dX10_does_73) (mM_finding ad iv er (-1000001) 1 (by decide) (by decide)) [0, 2] rfl (by decide) rfl rfl ?_
        exact z_iret hQ hz hr hlk dX10_does_76 (by
          have e9 : sDoes g (nI j) 0 v = (1, 0, g) := by simp [sDoes, mostF, tN_0, tN_1, tN_2, tN_3, inR, nI_clamp, c14, c15, t_j]
          rw [e9]; exact ⟨congrArg (fun z => some (Value.int z)) rE1, rfl⟩)
set_option maxHeartbeats 400000 in
theorem mM_room {G : zG} (ad : Nat → Nat) (iv g er : Nat → Int32) (room what : Int32) (nm : Nat) (hnm : g 1 = nI nm) (h16 : nm ≤ 16) : zMet G yX10_room (ws_ yX10_room cX10_room 3 (some .int)) (zRm 3 0 0 90) [.ref (ad 99), .int room, .int what] [zO (ad 99) 10 (mFs ad iv), zI (G.2.2.1 0) (ad 0) 602 g, zI (G.2.2.1 0) (ad 4) 6 er] (fun v9 b9 => v9 = some (.int (rOf (sRoom g room what))) ∧ b9 = [zO (ad 99) 10 (mFs ad iv), zI (G.2.2.1 0) (ad 0) 602 ((sRoom g room what).2.2), zI (G.2.2.1 0) (ad 4) 6 (eOf er (sRoom g room what))]) := by
  refine zMet.of (by decide +kernel) (Nat.le_of_ble_eq_true rfl) ?_
  intro p e s m args below meth c A hz hA hr hlk hnm9 Q hQ
  refine z_lv (lv' := [(0, .ref (ad 99)), (1, .int room), (2, .int what)]) [0, 1, 2] rfl ?_
  have tnm : tN (nI nm) = nm := nI_clamp (by omega)
  refine z_iload_n hz dX10_room_0 1 rfl rfl ?_
  refine z_callRD (st2 := [.int (zB (inR room 0 7))]) hz zKp.mt (zk_S hz (rm := (zRm 1 0 0 30)) (As := [.int room]) (rest := []) 1 q2041 q2042 q95 q2043 (by decide +kernel) ⟨Nat.le_of_ble_eq_true rfl, Nat.le_of_ble_eq_true rfl⟩ ⟨Nat.le_of_ble_eq_true rfl, Nat.le_of_ble_eq_true rfl⟩ rfl rfl (Nat.le_of_ble_eq_true rfl) dX10_room_1) (mM_isRoom room) (fun _ _ _ => zP0) rfl ?_
  refine z_ifB_eq hz 16 dX10_room_4 (by decide) (fun c1 => ?_) (fun c1 => ?_)
  · refine z_aload_n hz dX10_room_16 0 rfl rfl ?_
    refine z_ldc hz q2031 dX10_room_17 ?_
    refine z_callD (bs2 := [zO (ad 99) 10 (mFs ad iv), zI (G.2.2.1 0) (ad 0) 602 g, zI (G.2.2.1 0) (ad 4) 6 (upd er 1 (er 1 + 1))]) (st2 := [.int (-1000001)]) hz hA (zk_V hz (rm := (zRm 0 0 0 0)) (As := [.int (-1000001)]) (rest := []) 1 q2032 q2034 qs35 q95 q2035 (by decide +kernel) ⟨Nat.le_of_ble_eq_true rfl, Nat.le_of_ble_eq_true rfl⟩ ⟨Nat.le_of_ble_eq_true rfl, Nat.le_of_ble_eq_true rfl⟩ (zRecv (q := (RX10, TX10, 29)) hz (zAt.mt 0 0 rfl rfl) rfl) rfl rfl (Nat.le_of_ble_eq_true rfl) dX10_room_19) (mM_finding ad iv er (-1000001) 1 (by decide) (by decide)) [0, 2] rfl (by decide) rfl rfl ?_
    exact z_iret hQ hz hr hlk dX10_room_22 (by
      have e9 : sRoom g room what = (1, 0, g) := by simp [sRoom, inR, nI_clamp, c1, hnm, tnm]
      rw [e9]; exact ⟨congrArg (fun z => some (Value.int z)) rE1, rfl⟩)
  · refine z_iload_n hz dX10_room_7 2 rfl rfl ?_
    refine z_iconst hz 0 dX10_room_8 ki_0 ?_
    refine z_iconst hz 2 dX10_room_9 ki_2 ?_
    refine z_callRD (st2 := [.int (zB (inR what 0 2))]) hz zKp.mt (zk_S hz (rm := (zRm 0 0 0 0)) (As := [.int what, .int 0, .int 2]) (rest := []) 3 q2023 q2024 q95 q2025 (by decide +kernel) ⟨Nat.le_of_ble_eq_true rfl, Nat.le_of_ble_eq_true rfl⟩ ⟨Nat.le_of_ble_eq_true rfl, Nat.le_of_ble_eq_true rfl⟩ rfl rfl (Nat.le_of_ble_eq_true rfl) dX10_room_10) (mM_within what 0 2) (fun _ _ _ => zP0) rfl ?_
    refine z_ifB_ne hz 23 dX10_room_13 (by decide) (fun c2 => ?_) (fun c2 => ?_)
    · obtain ⟨j, j_lo, j_hi, rfl⟩ := inR_nat 0 7 kn_0 kn_7 (by decide) (by decide) c1
      have t_j : tN (nI j) = j := nI_clamp (by omega)
      refine z_iload_n hz dX10_room_23 2 rfl rfl ?_
      refine z_iconst hz 2 dX10_room_24 ki_2 ?_
      refine z_icmp_ne hz 36 dX10_room_25 (by decide) (fun c3 => ?_) (fun c3 => ?_)
      · refine z_aload_n hz dX10_room_36 0 rfl rfl ?_
        refine z_get (C := RX10) (T := TX10) (N := 29) hz in_X10 (zAt.mt 0 0 rfl rfl) rfl 0 (by decide) q1929 (fun _ h9 => h9) rfl dX10_room_37 ?_
        refine z_iload_n hz dX10_room_40 2 rfl rfl ?_
        refine z_if_ne hz 49 dX10_room_41 (by decide) (fun c4 => ?_) (fun c4 => ?_)
        · refine z_bipush hz 28 dX10_room_49 kb_28 ?_
          refine z_iload_n hz dX10_room_51 1 rfl rfl ?_
          refine z_iaddN hz kn_28 rfl dX10_room_52 ?_
          refine z_iald hz (zAt.mt 1 0 rfl rfl) rfl (by omega) (by decide) dX10_room_53 ?_
          exact z_iret hQ hz hr hlk dX10_room_54 (by
            have e9 : sRoom g (nI j) what = (0, g (28 + j), g) := by simp [sRoom, inR, nI_clamp, c1, c2, c3, c4, t_j, hnm, tnm]
            rw [e9]; exact ⟨rfl, rfl⟩)
        · subst c4
          refine z_bipush hz 20 dX10_room_44 kb_20 ?_
          refine z_goto hz 51 dX10_room_46 (by decide) ?_
          refine z_iload_n hz dX10_room_51 1 rfl rfl ?_
          refine z_iaddN hz kn_20 rfl dX10_room_52 ?_
          refine z_iald hz (zAt.mt 1 0 rfl rfl) rfl (by omega) (by decide) dX10_room_53 ?_
          exact z_iret hQ hz hr hlk dX10_room_54 (by
            have e9 : sRoom g (nI j) 0 = (0, g (20 + j), g) := by simp [sRoom, inR, nI_clamp, c1, c2, c3, t_j, hnm, tnm]
            rw [e9]; exact ⟨rfl, rfl⟩)
      · subst c3
        refine z_aload_n hz dX10_room_28 0 rfl rfl ?_
        refine z_iload_n hz dX10_room_29 1 rfl rfl ?_
        refine z_callRD (st2 := [.int (menF g (nI j) nm)]) hz zKp.mt (zk_V hz (rm := (zRm 1 0 0 30)) (As := [.int (nI j)]) (rest := []) 1 q2082 q2084 qs39 q95 q2085 (by decide +kernel) ⟨Nat.le_of_ble_eq_true rfl, Nat.le_of_ble_eq_true rfl⟩ ⟨Nat.le_of_ble_eq_true rfl, Nat.le_of_ble_eq_true rfl⟩ (zRecv (q := (RX10, TX10, 29)) hz (zAt.mt 0 0 rfl rfl) rfl) rfl rfl (Nat.le_of_ble_eq_true rfl) dX10_room_30) (mM_menIn ad iv g (nI j) nm hnm h16) (fun H9 L9 h9 => (zPc (zAt.mt 0 0 rfl rfl) h9 (zPc (zAt.mt 1 0 rfl rfl) h9 zP0))) rfl ?_
        refine z_goto hz 54 dX10_room_33 (by decide) ?_
        exact z_iret hQ hz hr hlk dX10_room_54 (by
          have e9 : sRoom g (nI j) 2 = (0, menF g (nI j) nm, g) := by simp [sRoom, inR, nI_clamp, c1, c2, t_j, hnm, tnm]
          rw [e9]; exact ⟨rfl, rfl⟩)
    · refine z_aload_n hz dX10_room_16 0 rfl rfl ?_
      refine z_ldc hz q2031 dX10_room_17 ?_
      refine z_callD (bs2 := [zO (ad 99) 10 (mFs ad iv), zI (G.2.2.1 0) (ad 0) 602 g, zI (G.2.2.1 0) (ad 4) 6 (upd er 1 (er 1 + 1))]) (st2 := [.int (-1000001)]) hz hA (zk_V hz (rm := (zRm 0 0 0 0)) (As := [.int (-1000001)]) (rest := []) 1 q2032 q2034 qs35 q95 q2035 (by decide +kernel) ⟨Nat.le_of_ble_eq_true rfl, Nat.le_of_ble_eq_true rfl⟩ ⟨Nat.le_of_ble_eq_true rfl, Nat.le_of_ble_eq_true rfl⟩ (zRecv (q := (RX10, TX10, 29)) hz (zAt.mt 0 0 rfl rfl) rfl) rfl rfl (Nat.le_of_ble_eq_true rfl) dX10_room_19) (mM_finding ad iv er (-1000001) 1 (by decide) (by decide)) [0, 2] rfl (by decide) rfl rfl ?_
      exact z_iret hQ hz hr hlk dX10_room_22 (by
        have e9 : sRoom g room what = (1, 0, g) := by simp [sRoom, inR, nI_clamp, c1, c2, hnm, tnm]
        rw [e9]; exact ⟨congrArg (fun z => some (Value.int z)) rE1, rfl⟩)
set_option maxHeartbeats 1000000 in
theorem mM_pour {G : zG} (ad : Nat → Nat) (iv g er : Nat → Int32) (room what v : Int32) : zMet G yX10_pour (ws_ yX10_pour cX10_pour 5 (some .int)) (zRm 2 0 0 60) [.ref (ad 99), .int room, .int what, .int v] [zO (ad 99) 10 (mFs ad iv), zI (G.2.2.1 0) (ad 0) 602 g, zI (G.2.2.1 0) (ad 4) 6 er] (fun v9 b9 => v9 = some (.int (rOf (sPour g room what v))) ∧ b9 = [zO (ad 99) 10 (mFs ad iv), zI (G.2.2.1 0) (ad 0) 602 ((sPour g room what v).2.2), zI (G.2.2.1 0) (ad 4) 6 (eOf er (sPour g room what v))]) := by
  refine zMet.of (by decide +kernel) (Nat.le_of_ble_eq_true rfl) ?_
  intro p e s m args below meth c A hz hA hr hlk hnm9 Q hQ
  refine z_lv (lv' := [(0, .ref (ad 99)), (1, .int room), (2, .int what), (3, .int v)]) [0, 1, 2, 3] rfl ?_
  refine z_iload_n hz dX10_pour_0 1 rfl rfl ?_
  refine z_callRD (st2 := [.int (zB (inR room 0 7))]) hz zKp.mt (zk_S hz (rm := (zRm 1 0 0 30)) (As := [.int room]) (rest := []) 1 q2041 q2042 q95 q2043 (by decide +kernel) ⟨Nat.le_of_ble_eq_true rfl, Nat.le_of_ble_eq_true rfl⟩ ⟨Nat.le_of_ble_eq_true rfl, Nat.le_of_ble_eq_true rfl⟩ rfl rfl (Nat.le_of_ble_eq_true rfl) dX10_pour_1) (mM_isRoom room) (fun _ _ _ => zP0) rfl ?_
  refine z_ifB_eq hz 44 dX10_pour_4 (by decide) (fun c1 => ?_) (fun c1 => ?_)
  · refine z_iconst hz 0 dX10_pour_44 ki_0 ?_
    refine z_istore (lv' := [(0, .ref (ad 99)), (1, .int room), (2, .int what), (3, .int v), (4, .int 0)]) hz [1, 2, 3, 4, 0] dX10_pour_45 (by decide) rfl ?_
    refine z_iload hz dX10_pour_47 4 rfl ?_
    refine z_if_eqT hz 73 dX10_pour_49 (by decide) (by decide) ?_
    refine z_aload_n hz dX10_pour_73 0 rfl rfl ?_
    refine z_ldc hz q2031 dX10_pour_74 ?_
    refine z_callD (bs2 := [zO (ad 99) 10 (mFs ad iv), zI (G.2.2.1 0) (ad 0) 602 g, zI (G.2.2.1 0) (ad 4) 6 (upd er 1 (er 1 + 1))]) (st2 := [.int (-1000001)]) hz hA (zk_V hz (rm := (zRm 0 0 0 0)) (As := [.int (-1000001)]) (rest := []) 1 q2032 q2034 qs35 q95 q2035 (by decide +kernel) ⟨Nat.le_of_ble_eq_true rfl, Nat.le_of_ble_eq_true rfl⟩ ⟨Nat.le_of_ble_eq_true rfl, Nat.le_of_ble_eq_true rfl⟩ (zRecv (q := (RX10, TX10, 29)) hz (zAt.mt 0 0 rfl rfl) rfl) rfl rfl (Nat.le_of_ble_eq_true rfl) dX10_pour_76) (mM_finding ad iv er (-1000001) 1 (by decide) (by decide)) [0, 2] rfl (by decide) rfl rfl ?_
    exact z_iret hQ hz hr hlk dX10_pour_79 (by
      have e9 : sPour g room what v = (1, 0, g) := by simp [sPour, inR, nI_clamp, c1]
      rw [e9]; exact ⟨congrArg (fun z => some (Value.int z)) rE1, rfl⟩)
  · obtain ⟨j, j_lo, j_hi, rfl⟩ := inR_nat 0 7 kn_0 kn_7 (by decide) (by decide) c1
    have t_j : tN (nI j) = j := nI_clamp (by omega)
    refine z_iload_n hz dX10_pour_7 2 rfl rfl ?_
    refine z_if_ne hz 25 dX10_pour_8 (by decide) (fun c2 => ?_) (fun c2 => ?_)
    · refine z_iload_n hz dX10_pour_25 2 rfl rfl ?_
      refine z_iconst hz 1 dX10_pour_26 ki_1 ?_
      refine z_icmp_ne hz 44 dX10_pour_27 (by decide) (fun c3 => ?_) (fun c3 => ?_)
      · refine z_iconst hz 0 dX10_pour_44 ki_0 ?_
        refine z_istore (lv' := [(0, .ref (ad 99)), (1, .int (nI j)), (2, .int what), (3, .int v), (4, .int 0)]) hz [1, 2, 3, 4, 0] dX10_pour_45 (by decide) rfl ?_
        refine z_iload hz dX10_pour_47 4 rfl ?_
        refine z_if_eqT hz 73 dX10_pour_49 (by decide) (by decide) ?_
        refine z_aload_n hz dX10_pour_73 0 rfl rfl ?_
        refine z_ldc hz q2031 dX10_pour_74 ?_
        refine z_callD (bs2 := [zO (ad 99) 10 (mFs ad iv), zI (G.2.2.1 0) (ad 0) 602 g, zI (G.2.2.1 0) (ad 4) 6 (upd er 1 (er 1 + 1))]) (st2 := [.int (-1000001)]) hz hA (zk_V hz (rm := (zRm 0 0 0 0)) (As := [.int (-1000001)]) (rest := []) 1 q2032 q2034 qs35 q95 q2035 (by decide +kernel) ⟨Nat.le_of_ble_eq_true rfl, Nat.le_of_ble_eq_true rfl⟩ ⟨Nat.le_of_ble_eq_true rfl, Nat.le_of_ble_eq_true rfl⟩ (zRecv (q := (RX10, TX10, 29)) hz (zAt.mt 0 0 rfl rfl) rfl) rfl rfl (Nat.le_of_ble_eq_true rfl) dX10_pour_76) (mM_finding ad iv er (-1000001) 1 (by decide) (by decide)) [0, 2] rfl (by decide) rfl rfl ?_
        exact z_iret hQ hz hr hlk dX10_pour_79 (by
          have e9 : sPour g (nI j) what v = (1, 0, g) := by simp [sPour, inR, nI_clamp, c1, c2, c3, t_j]
          rw [e9]; exact ⟨congrArg (fun z => some (Value.int z)) rE1, rfl⟩)
      · subst c3
        refine z_iload_n hz dX10_pour_30 3 rfl rfl ?_
        refine z_iconst hz 0 dX10_pour_31 ki_0 ?_
        refine z_ldc hz q2026 dX10_pour_32 ?_
        refine z_callRD (st2 := [.int (zB (inR v 0 99999))]) hz zKp.mt (zk_S hz (rm := (zRm 0 0 0 0)) (As := [.int v, .int 0, .int 99999]) (rest := []) 3 q2023 q2024 q95 q2025 (by decide +kernel) ⟨Nat.le_of_ble_eq_true rfl, Nat.le_of_ble_eq_true rfl⟩ ⟨Nat.le_of_ble_eq_true rfl, Nat.le_of_ble_eq_true rfl⟩ rfl rfl (Nat.le_of_ble_eq_true rfl) dX10_pour_34) (mM_within v 0 99999) (fun _ _ _ => zP0) rfl ?_
        refine z_ifB_eq hz 44 dX10_pour_37 (by decide) (fun c4 => ?_) (fun c4 => ?_)
        · refine z_iconst hz 0 dX10_pour_44 ki_0 ?_
          refine z_istore (lv' := [(0, .ref (ad 99)), (1, .int (nI j)), (2, .int 1), (3, .int v), (4, .int 0)]) hz [1, 2, 3, 4, 0] dX10_pour_45 (by decide) rfl ?_
          refine z_iload hz dX10_pour_47 4 rfl ?_
          refine z_if_eqT hz 73 dX10_pour_49 (by decide) (by decide) ?_
          refine z_aload_n hz dX10_pour_73 0 rfl rfl ?_
          refine z_ldc hz q2031 dX10_pour_74 ?_
          refine z_callD (bs2 := [zO (ad 99) 10 (mFs ad iv), zI (G.2.2.1 0) (ad 0) 602 g, zI (G.2.2.1 0) (ad 4) 6 (upd er 1 (er 1 + 1))]) (st2 := [.int (-1000001)]) hz hA (zk_V hz (rm := (zRm 0 0 0 0)) (As := [.int (-1000001)]) (rest := []) 1 q2032 q2034 qs35 q95 q2035 (by decide +kernel) ⟨Nat.le_of_ble_eq_true rfl, Nat.le_of_ble_eq_true rfl⟩ ⟨Nat.le_of_ble_eq_true rfl, Nat.le_of_ble_eq_true rfl⟩ (zRecv (q := (RX10, TX10, 29)) hz (zAt.mt 0 0 rfl rfl) rfl) rfl rfl (Nat.le_of_ble_eq_true rfl) dX10_pour_76) (mM_finding ad iv er (-1000001) 1 (by decide) (by decide)) [0, 2] rfl (by decide) rfl rfl ?_
          exact z_iret hQ hz hr hlk dX10_pour_79 (by
            have e9 : sPour g (nI j) 1 v = (1, 0, g) := by simp [sPour, inR, nI_clamp, c1, c2, c4, t_j]
            rw [e9]; exact ⟨congrArg (fun z => some (Value.int z)) rE1, rfl⟩)
        · refine z_iconst hz 1 dX10_pour_40 ki_1 ?_
          refine z_goto hz 45 dX10_pour_41 (by decide) ?_
          refine z_istore (lv' := [(0, .ref (ad 99)), (1, .int (nI j)), (2, .int 1), (3, .int v), (4, .int 1)]) hz [1, 2, 3, 4, 0] dX10_pour_45 (by decide) rfl ?_
          refine z_iload hz dX10_pour_47 4 rfl ?_
          refine z_if_eqF hz 73 dX10_pour_49 (by decide) (by decide) ?_
          refine z_aload_n hz dX10_pour_52 0 rfl rfl ?_
          refine z_iload_n hz dX10_pour_53 2 rfl rfl ?_
          refine z_if_neT hz 62 dX10_pour_54 (by decide) (by decide) ?_
          refine z_bipush hz 28 dX10_pour_62 kb_28 ?_
          refine z_iload_n hz dX10_pour_64 1 rfl rfl ?_
          refine z_iaddN hz kn_28 rfl dX10_pour_65 ?_
          refine z_iload_n hz dX10_pour_66 3 rfl rfl ?_
          refine z_callD (bs2 := [zO (ad 99) 10 (mFs ad iv), zI (G.2.2.1 0) (ad 0) 602 (upd g (28 + j) v), zI (G.2.2.1 0) (ad 4) 6 er]) (st2 := [.int (g (28 + j))]) hz hA (zk_V hz (rm := (zRm 0 0 0 0)) (As := [.int (nI (28 + j)), .int v]) (rest := []) 2 q2027 q2029 qs34 q95 q2030 (by decide +kernel) ⟨Nat.le_of_ble_eq_true rfl, Nat.le_of_ble_eq_true rfl⟩ ⟨Nat.le_of_ble_eq_true rfl, Nat.le_of_ble_eq_true rfl⟩ (zRecv (q := (RX10, TX10, 29)) hz (zAt.mt 0 0 rfl rfl) rfl) rfl rfl (Nat.le_of_ble_eq_true rfl) dX10_pour_67) (mM_become ad iv g (28 + j) v (by omega)) [0, 1] rfl (by decide) rfl rfl ?_
          refine z_goto hz 79 dX10_pour_70 (by decide) ?_
          exact z_iret hQ hz hr hlk dX10_pour_79 (by
            have e9 : sPour g (nI j) 1 v = (0, g (28 + j), upd g (28 + j) v) := by simp [sPour, inR, nI_clamp, c1, c2, c4, t_j]
            rw [e9]; exact ⟨rfl, rfl⟩)
    · subst c2
      refine z_iload_n hz dX10_pour_11 3 rfl rfl ?_
      refine z_iconst hz 0 dX10_pour_12 ki_0 ?_
      refine z_sipush hz 1000 dX10_pour_13 ks_1000 ?_
      refine z_callRD (st2 := [.int (zB (inR v 0 1000))]) hz zKp.mt (zk_S hz (rm := (zRm 0 0 0 0)) (As := [.int v, .int 0, .int 1000]) (rest := []) 3 q2023 q2024 q95 q2025 (by decide +kernel) ⟨Nat.le_of_ble_eq_true rfl, Nat.le_of_ble_eq_true rfl⟩ ⟨Nat.le_of_ble_eq_true rfl, Nat.le_of_ble_eq_true rfl⟩ rfl rfl (Nat.le_of_ble_eq_true rfl) dX10_pour_16) (mM_within v 0 1000) (fun _ _ _ => zP0) rfl ?_
      refine z_ifB_eq hz 44 dX10_pour_19 (by decide) (fun c5 => ?_) (fun c5 => ?_)
      · refine z_iconst hz 0 dX10_pour_44 ki_0 ?_
        refine z_istore (lv' := [(0, .ref (ad 99)), (1, .int (nI j)), (2, .int 0), (3, .int v), (4, .int 0)]) hz [1, 2, 3, 4, 0] dX10_pour_45 (by decide) rfl ?_
        refine z_iload hz dX10_pour_47 4 rfl ?_
        refine z_if_eqT hz 73 dX10_pour_49 (by decide) (by decide) ?_
        refine z_aload_n hz dX10_pour_73 0 rfl rfl ?_
        refine z_ldc hz q2031 dX10_pour_74 ?_
        refine z_callD (bs2 := [zO (ad 99) 10 (mFs ad iv), zI (G.2.2.1 0) (ad 0) 602 g, zI (G.2.2.1 0) (ad 4) 6 (upd er 1 (er 1 + 1))]) (st2 := [.int (-1000001)]) hz hA (zk_V hz (rm := (zRm 0 0 0 0)) (As := [.int (-1000001)]) (rest := []) 1 q2032 q2034 qs35 q95 q2035 (by decide +kernel) ⟨Nat.le_of_ble_eq_true rfl, Nat.le_of_ble_eq_true rfl⟩ ⟨Nat.le_of_ble_eq_true rfl, Nat.le_of_ble_eq_true rfl⟩ (zRecv (q := (RX10, TX10, 29)) hz (zAt.mt 0 0 rfl rfl) rfl) rfl rfl (Nat.le_of_ble_eq_true rfl) dX10_pour_76) (mM_finding ad iv er (-1000001) 1 (by decide) (by decide)) [0, 2] rfl (by decide) rfl rfl ?_
        exact z_iret hQ hz hr hlk dX10_pour_79 (by
          have e9 : sPour g (nI j) 0 v = (1, 0, g) := by simp [sPour, inR, nI_clamp, c1, c5, t_j]
          rw [e9]; exact ⟨congrArg (fun z => some (Value.int z)) rE1, rfl⟩)
      · refine z_goto hz 40 dX10_pour_22 (by decide) ?_
        refine z_iconst hz 1 dX10_pour_40 ki_1 ?_
        refine z_goto hz 45 dX10_pour_41 (by decide) ?_
        refine z_istore (lv' := [(0, .ref (ad 99)), (1, .int (nI j)), (2, .int 0), (3, .int v), (4, .int 1)]) hz [1, 2, 3, 4, 0] dX10_pour_45 (by decide) rfl ?_
        refine z_iload hz dX10_pour_47 4 rfl ?_
        refine z_if_eqF hz 73 dX10_pour_49 (by decide) (by decide) ?_
        refine z_aload_n hz dX10_pour_52 0 rfl rfl ?_
        refine z_iload_n hz dX10_pour_53 2 rfl rfl ?_
        refine z_if_neF hz 62 dX10_pour_54 (by decide) (by decide) ?_
        refine z_bipush hz 20 dX10_pour_57 kb_20 ?_
        refine z_goto hz 64 dX10_pour_59 (by decide) ?_
        refine z_iload_n hz dX10_pour_64 1 rfl rfl ?_
        refine z_iaddN hz kn_20 rfl dX10_pour_65 ?_
        refine z_iload_n hz dX10_pour_66 3 rfl rfl ?_
        refine z_callD (bs2 := [zO (ad 99) 10 (mFs ad iv), zI (G.2.2.1 0) (ad 0) 602 (upd g (20 + j) v), zI (G.2.2.1 0) (ad 4) 6 er]) (st2 := [.int (g (20 + j))]) hz hA (zk_V hz (rm := (zRm 0 0 0 0)) (As := [.int (nI (20 + j)), .int v]) (rest := []) 2 q2027 q2029 qs34 q95 q2030 (by decide +kernel) ⟨Nat.le_of_ble_eq_true rfl, Nat.le_of_ble_eq_true rfl⟩ ⟨Nat.le_of_ble_eq_true rfl, Nat.le_of_ble_eq_true rfl⟩ (zRecv (q := (RX10, TX10, 29)) hz (zAt.mt 0 0 rfl rfl) rfl) rfl rfl (Nat.le_of_ble_eq_true rfl) dX10_pour_67) (mM_become ad iv g (20 + j) v (by omega)) [0, 1] rfl (by decide) rfl rfl ?_
        refine z_goto hz 79 dX10_pour_70 (by decide) ?_
        exact z_iret hQ hz hr hlk dX10_pour_79 (by
          have e9 : sPour g (nI j) 0 v = (0, g (20 + j), upd g (20 + j) v) := by simp [sPour, inR, nI_clamp, c1, c5, t_j]
          rw [e9]; exact ⟨rfl, rfl⟩)
set_option maxHeartbeats 400000 in
theorem mM_tank {G : zG} (ad : Nat → Nat) (iv g er : Nat → Int32) (place size : Int32) (nt : Nat) (hnt : g 4 = nI nt) (h8 : nt ≤ 8) : zMet G yX10_tank (ws_ yX10_tank cX10_tank 4 (some .int)) (zRm 2 0 0 60) [.ref (ad 99), .int place, .int size] [zO (ad 99) 10 (mFs ad iv), zI (G.2.2.1 0) (ad 0) 602 g, zI (G.2.2.1 0) (ad 4) 6 er] (fun v9 b9 => v9 = some (.int (rOf (sTank g place size))) ∧ b9 = [zO (ad 99) 10 (mFs ad iv), zI (G.2.2.1 0) (ad 0) 602 ((sTank g place size).2.2), zI (G.2.2.1 0) (ad 4) 6 (eOf er (sTank g place size))]) := by
  refine zMet.of (by decide +kernel) (Nat.le_of_ble_eq_true rfl) ?_
  intro p e s m args below meth c A hz hA hr hlk hnm9 Q hQ
  refine z_lv (lv' := [(0, .ref (ad 99)), (1, .int place), (2, .int size)]) [0, 1, 2] rfl ?_
  have tnt : tN (nI nt) = nt := nI_clamp (by omega)
  refine z_iload_n hz dX10_tank_0 1 rfl rfl ?_
  refine z_bipush hz (-50) dX10_tank_1 kb_m50 ?_
  refine z_bipush hz 50 dX10_tank_3 kb_50 ?_
  refine z_callRD (st2 := [.int (zB (inR place (-50) 50))]) hz zKp.mt (zk_S hz (rm := (zRm 0 0 0 0)) (As := [.int place, .int (-50), .int 50]) (rest := []) 3 q2023 q2024 q95 q2025 (by decide +kernel) ⟨Nat.le_of_ble_eq_true rfl, Nat.le_of_ble_eq_true rfl⟩ ⟨Nat.le_of_ble_eq_true rfl, Nat.le_of_ble_eq_true rfl⟩ rfl rfl (Nat.le_of_ble_eq_true rfl) dX10_tank_5) (mM_within place (-50) 50) (fun _ _ _ => zP0) rfl ?_
  refine z_ifB_eq hz 21 dX10_tank_8 (by decide) (fun c1 => ?_) (fun c1 => ?_)
  · refine z_aload_n hz dX10_tank_21 0 rfl rfl ?_
    refine z_ldc hz q2031 dX10_tank_22 ?_
    refine z_callD (bs2 := [zO (ad 99) 10 (mFs ad iv), zI (G.2.2.1 0) (ad 0) 602 g, zI (G.2.2.1 0) (ad 4) 6 (upd er 1 (er 1 + 1))]) (st2 := [.int (-1000001)]) hz hA (zk_V hz (rm := (zRm 0 0 0 0)) (As := [.int (-1000001)]) (rest := []) 1 q2032 q2034 qs35 q95 q2035 (by decide +kernel) ⟨Nat.le_of_ble_eq_true rfl, Nat.le_of_ble_eq_true rfl⟩ ⟨Nat.le_of_ble_eq_true rfl, Nat.le_of_ble_eq_true rfl⟩ (zRecv (q := (RX10, TX10, 29)) hz (zAt.mt 0 0 rfl rfl) rfl) rfl rfl (Nat.le_of_ble_eq_true rfl) dX10_tank_24) (mM_finding ad iv er (-1000001) 1 (by decide) (by decide)) [0, 2] rfl (by decide) rfl rfl ?_
    exact z_iret hQ hz hr hlk dX10_tank_27 (by
      have e9 : sTank g place size = (1, 0, g) := by simp [sTank, tankF, inR, nI_clamp, c1, hnt, tnt]
      rw [e9]; exact ⟨congrArg (fun z => some (Value.int z)) rE1, rfl⟩)
  · refine z_iload_n hz dX10_tank_11 2 rfl rfl ?_
    refine z_iconst hz 1 dX10_tank_12 ki_1 ?_
    refine z_bipush hz 50 dX10_tank_13 kb_50 ?_
    refine z_callRD (st2 := [.int (zB (inR size 1 50))]) hz zKp.mt (zk_S hz (rm := (zRm 0 0 0 0)) (As := [.int size, .int 1, .int 50]) (rest := []) 3 q2023 q2024 q95 q2025 (by decide +kernel) ⟨Nat.le_of_ble_eq_true rfl, Nat.le_of_ble_eq_true rfl⟩ ⟨Nat.le_of_ble_eq_true rfl, Nat.le_of_ble_eq_true rfl⟩ rfl rfl (Nat.le_of_ble_eq_true rfl) dX10_tank_15) (mM_within size 1 50) (fun _ _ _ => zP0) rfl ?_
    refine z_ifB_ne hz 28 dX10_tank_18 (by decide) (fun c2 => ?_) (fun c2 => ?_)
    · refine z_aload_n hz dX10_tank_28 0 rfl rfl ?_
      refine z_get (C := RX10) (T := TX10) (N := 29) hz in_X10 (zAt.mt 0 0 rfl rfl) rfl 0 (by decide) q1929 (fun _ h9 => h9) rfl dX10_tank_29 ?_
      refine z_iconst hz 4 dX10_tank_32 ki_4 ?_
      refine z_iald hz (zAt.mt 1 0 rfl rfl) kn_4 (by decide) (by decide) dX10_tank_33 ?_
      refine z_top hnt ?_
      refine z_istore_n (lv' := [(0, .ref (ad 99)), (1, .int place), (2, .int size), (3, .int (nI nt))]) hz [1, 2, 3, 0] dX10_tank_34 rfl (by decide) rfl ?_
      refine z_iload_n hz dX10_tank_35 3 rfl rfl ?_
      refine z_bipush hz 8 dX10_tank_36 kb_8 ?_
      refine z_icmpN_ne hz rfl kn_8 (by omega) (by decide) 48 dX10_tank_38 (by decide) (fun c3 => ?_) (fun c3 => ?_)
      · refine z_aload_n hz dX10_tank_48 0 rfl rfl ?_
        refine z_get (C := RX10) (T := TX10) (N := 29) hz in_X10 (zAt.mt 0 0 rfl rfl) rfl 0 (by decide) q1929 (fun _ h9 => h9) rfl dX10_tank_49 ?_
        refine z_sipush hz 200 dX10_tank_52 ks_200 ?_
        refine z_iconst hz 3 dX10_tank_55 ki_3 ?_
        refine z_iload_n hz dX10_tank_56 3 rfl rfl ?_
        refine z_imulN hz kn_3 rfl dX10_tank_57 ?_
        refine z_iaddN hz kn_200 rfl dX10_tank_58 ?_
        refine z_iconst hz 0 dX10_tank_59 ki_0 ?_
        refine z_iaddN hz rfl kn_0 dX10_tank_60 ?_
        refine z_iload_n hz dX10_tank_61 1 rfl rfl ?_
        refine z_iast hz 1 0 rfl rfl rfl (by omega) (by decide) dX10_tank_62 ?_
        refine z_bs (bs2 := [zO (ad 99) 10 (mFs ad iv), zI (G.2.2.1 0) (ad 0) 602 (upd g (200 + (3 * nt)) place), zI (G.2.2.1 0) (ad 4) 6 er]) rfl ?_
        refine z_aload_n hz dX10_tank_63 0 rfl rfl ?_
        refine z_get (C := RX10) (T := TX10) (N := 29) hz in_X10 (zAt.mt 0 0 rfl rfl) rfl 0 (by decide) q1929 (fun _ h9 => h9) rfl dX10_tank_64 ?_
        refine z_sipush hz 200 dX10_tank_67 ks_200 ?_
        refine z_iconst hz 3 dX10_tank_70 ki_3 ?_
        refine z_iload_n hz dX10_tank_71 3 rfl rfl ?_
        refine z_imulN hz kn_3 rfl dX10_tank_72 ?_
        refine z_iaddN hz kn_200 rfl dX10_tank_73 ?_
        refine z_iconst hz 1 dX10_tank_74 ki_1 ?_
        refine z_iaddN hz rfl kn_1 dX10_tank_75 ?_
        refine z_iload_n hz dX10_tank_76 2 rfl rfl ?_
        refine z_iast hz 1 0 rfl rfl rfl (by omega) (by decide) dX10_tank_77 ?_
        refine z_bs (bs2 := [zO (ad 99) 10 (mFs ad iv), zI (G.2.2.1 0) (ad 0) 602 (upd (upd g (200 + (3 * nt)) place) ((200 + (3 * nt)) + 1) size), zI (G.2.2.1 0) (ad 4) 6 er]) rfl ?_
        refine z_aload_n hz dX10_tank_78 0 rfl rfl ?_
        refine z_get (C := RX10) (T := TX10) (N := 29) hz in_X10 (zAt.mt 0 0 rfl rfl) rfl 0 (by decide) q1929 (fun _ h9 => h9) rfl dX10_tank_79 ?_
        refine z_sipush hz 200 dX10_tank_82 ks_200 ?_
        refine z_iconst hz 3 dX10_tank_85 ki_3 ?_
        refine z_iload_n hz dX10_tank_86 3 rfl rfl ?_
        refine z_imulN hz kn_3 rfl dX10_tank_87 ?_
        refine z_iaddN hz kn_200 rfl dX10_tank_88 ?_
        refine z_iconst hz 2 dX10_tank_89 ki_2 ?_
        refine z_iaddN hz rfl kn_2 dX10_tank_90 ?_
        refine z_iconst hz 0 dX10_tank_91 ki_0 ?_
        refine z_iast hz 1 0 rfl rfl rfl (by omega) (by decide) dX10_tank_92 ?_
        refine z_bs (bs2 := [zO (ad 99) 10 (mFs ad iv), zI (G.2.2.1 0) (ad 0) 602 (upd (upd (upd g (200 + (3 * nt)) place) ((200 + (3 * nt)) + 1) size) ((200 + (3 * nt)) + 2) 0), zI (G.2.2.1 0) (ad 4) 6 er]) rfl ?_
        refine z_aload_n hz dX10_tank_93 0 rfl rfl ?_
        refine z_get (C := RX10) (T := TX10) (N := 29) hz in_X10 (zAt.mt 0 0 rfl rfl) rfl 0 (by decide) q1929 (fun _ h9 => h9) rfl dX10_tank_94 ?_
        refine z_iconst hz 4 dX10_tank_97 ki_4 ?_
        refine z_dup2 hz dX10_tank_98 rfl rfl ?_
        refine z_iald hz (zAt.mt 1 0 rfl rfl) kn_4 (by decide) (by decide) dX10_tank_99 ?_
        refine z_top (ld_ne (by omega) (ld_ne (by omega) (ld_ne (by omega) hnt))) ?_
        refine z_iconst hz 1 dX10_tank_100 ki_1 ?_
        refine z_iaddN hz rfl kn_1 dX10_tank_101 ?_
        refine z_iast hz 1 0 rfl rfl kn_4 (by decide) (by decide) dX10_tank_102 ?_
        refine z_bs (bs2 := [zO (ad 99) 10 (mFs ad iv), zI (G.2.2.1 0) (ad 0) 602 (upd (upd (upd (upd g (200 + (3 * nt)) place) ((200 + (3 * nt)) + 1) size) ((200 + (3 * nt)) + 2) 0) 4 (nI (nt + 1))), zI (G.2.2.1 0) (ad 4) 6 er]) rfl ?_
        refine z_iload_n hz dX10_tank_103 3 rfl rfl ?_
        exact z_iret hQ hz hr hlk dX10_tank_104 (by
          have e9 : sTank g place size = (0, nI nt, upd (upd (upd (upd g (200 + (3 * nt)) place) ((200 + (3 * nt)) + 1) size) ((200 + (3 * nt)) + 2) 0) 4 (nI (nt + 1))) := by simp [sTank, tankF, inR, nI_clamp, c1, c2, c3, hnt, tnt]
          rw [e9]; exact ⟨rfl, rfl⟩)
      · refine z_aload_n hz dX10_tank_41 0 rfl rfl ?_
        refine z_ldc hz q2044 dX10_tank_42 ?_
        refine z_callD (bs2 := [zO (ad 99) 10 (mFs ad iv), zI (G.2.2.1 0) (ad 0) 602 g, zI (G.2.2.1 0) (ad 4) 6 (upd er 4 (er 4 + 1))]) (st2 := [.int (-1000004)]) hz hA (zk_V hz (rm := (zRm 0 0 0 0)) (As := [.int (-1000004)]) (rest := []) 1 q2032 q2034 qs35 q95 q2035 (by decide +kernel) ⟨Nat.le_of_ble_eq_true rfl, Nat.le_of_ble_eq_true rfl⟩ ⟨Nat.le_of_ble_eq_true rfl, Nat.le_of_ble_eq_true rfl⟩ (zRecv (q := (RX10, TX10, 29)) hz (zAt.mt 0 0 rfl rfl) rfl) rfl rfl (Nat.le_of_ble_eq_true rfl) dX10_tank_44) (mM_finding ad iv er (-1000004) 4 (by decide) (by decide)) [0, 2] rfl (by decide) rfl rfl ?_
        exact z_iret hQ hz hr hlk dX10_tank_47 (by
          have e9 : sTank g place size = (4, 0, g) := by simp [sTank, tankF, inR, nI_clamp, c1, c2, c3, hnt, tnt]
          rw [e9]; exact ⟨congrArg (fun z => some (Value.int z)) rE4, rfl⟩)
    · refine z_aload_n hz dX10_tank_21 0 rfl rfl ?_
      refine z_ldc hz q2031 dX10_tank_22 ?_
      refine z_callD (bs2 := [zO (ad 99) 10 (mFs ad iv), zI (G.2.2.1 0) (ad 0) 602 g, zI (G.2.2.1 0) (ad 4) 6 (upd er 1 (er 1 + 1))]) (st2 := [.int (-1000001)]) hz hA (zk_V hz (rm := (zRm 0 0 0 0)) (As := [.int (-1000001)]) (rest := []) 1 q2032 q2034 qs35 q95 q2035 (by decide +kernel) ⟨Nat.le_of_ble_eq_true rfl, Nat.le_of_ble_eq_true rfl⟩ ⟨Nat.le_of_ble_eq_true rfl, Nat.le_of_ble_eq_true rfl⟩ (zRecv (q := (RX10, TX10, 29)) hz (zAt.mt 0 0 rfl rfl) rfl) rfl rfl (Nat.le_of_ble_eq_true rfl) dX10_tank_24) (mM_finding ad iv er (-1000001) 1 (by decide) (by decide)) [0, 2] rfl (by decide) rfl rfl ?_
      exact z_iret hQ hz hr hlk dX10_tank_27 (by
        have e9 : sTank g place size = (1, 0, g) := by simp [sTank, tankF, inR, nI_clamp, c1, c2, hnt, tnt]
        rw [e9]; exact ⟨congrArg (fun z => some (Value.int z)) rE1, rfl⟩)
set_option maxHeartbeats 400000 in
theorem mM_blow {G : zG} (ad : Nat → Nat) (iv g er : Nat → Int32) (tank isB : Int32) (nt : Nat) (hnt : g 4 = nI nt) (h8 : nt ≤ 8) : zMet G yX10_blow (ws_ yX10_blow cX10_blow 3 (some .int)) (zRm 2 0 0 60) [.ref (ad 99), .int tank, .int isB] [zO (ad 99) 10 (mFs ad iv), zI (G.2.2.1 0) (ad 0) 602 g, zI (G.2.2.1 0) (ad 4) 6 er] (fun v9 b9 => v9 = some (.int (rOf (sBlow g tank isB))) ∧ b9 = [zO (ad 99) 10 (mFs ad iv), zI (G.2.2.1 0) (ad 0) 602 ((sBlow g tank isB).2.2), zI (G.2.2.1 0) (ad 4) 6 (eOf er (sBlow g tank isB))]) := by
  refine zMet.of (by decide +kernel) (Nat.le_of_ble_eq_true rfl) ?_
  intro p e s m args below meth c A hz hA hr hlk hnm9 Q hQ
  refine z_lv (lv' := [(0, .ref (ad 99)), (1, .int tank), (2, .int isB)]) [0, 1, 2] rfl ?_
  refine z_aload_n hz dX10_blow_0 0 rfl rfl ?_
  refine z_iload_n hz dX10_blow_1 1 rfl rfl ?_
  refine z_iconst hz 4 dX10_blow_2 ki_4 ?_
  refine z_callRD (st2 := [.int (zB (inR tank 0 (g 4 - 1)))]) hz zKp.mt (zk_V hz (rm := (zRm 1 0 0 30)) (As := [.int tank, .int 4]) (rest := []) 2 q2053 q2055 qs37 q95 q2056 (by decide +kernel) ⟨Nat.le_of_ble_eq_true rfl, Nat.le_of_ble_eq_true rfl⟩ ⟨Nat.le_of_ble_eq_true rfl, Nat.le_of_ble_eq_true rfl⟩ (zRecv (q := (RX10, TX10, 29)) hz (zAt.mt 0 0 rfl rfl) rfl) rfl rfl (Nat.le_of_ble_eq_true rfl) dX10_blow_3) (mM_is ad iv g tank 4 (by decide)) (fun H9 L9 h9 => (zPc (zAt.mt 0 0 rfl rfl) h9 (zPc (zAt.mt 1 0 rfl rfl) h9 zP0))) rfl ?_
  refine z_ifB_eq hz 35 dX10_blow_6 (by decide) (fun c1 => ?_) (fun c1 => ?_)
  · refine z_aload_n hz dX10_blow_35 0 rfl rfl ?_
    refine z_ldc hz q2031 dX10_blow_36 ?_
    refine z_callD (bs2 := [zO (ad 99) 10 (mFs ad iv), zI (G.2.2.1 0) (ad 0) 602 g, zI (G.2.2.1 0) (ad 4) 6 (upd er 1 (er 1 + 1))]) (st2 := [.int (-1000001)]) hz hA (zk_V hz (rm := (zRm 0 0 0 0)) (As := [.int (-1000001)]) (rest := []) 1 q2032 q2034 qs35 q95 q2035 (by decide +kernel) ⟨Nat.le_of_ble_eq_true rfl, Nat.le_of_ble_eq_true rfl⟩ ⟨Nat.le_of_ble_eq_true rfl, Nat.le_of_ble_eq_true rfl⟩ (zRecv (q := (RX10, TX10, 29)) hz (zAt.mt 0 0 rfl rfl) rfl) rfl rfl (Nat.le_of_ble_eq_true rfl) dX10_blow_38) (mM_finding ad iv er (-1000001) 1 (by decide) (by decide)) [0, 2] rfl (by decide) rfl rfl ?_
    exact z_iret hQ hz hr hlk dX10_blow_41 (by
      have e9 : sBlow g tank isB = (1, 0, g) := by simp [sBlow, inR, nI_clamp, c1]
      rw [e9]; exact ⟨congrArg (fun z => some (Value.int z)) rE1, rfl⟩)
  · obtain ⟨j, j_lt, rfl⟩ := is_nat hnt (by omega) c1
    have t_j : tN (nI j) = j := nI_clamp (by omega)
    refine z_iload_n hz dX10_blow_9 2 rfl rfl ?_
    refine z_iconst hz 0 dX10_blow_10 ki_0 ?_
    refine z_iconst hz 1 dX10_blow_11 ki_1 ?_
    refine z_callRD (st2 := [.int (zB (inR isB 0 1))]) hz zKp.mt (zk_S hz (rm := (zRm 0 0 0 0)) (As := [.int isB, .int 0, .int 1]) (rest := []) 3 q2023 q2024 q95 q2025 (by decide +kernel) ⟨Nat.le_of_ble_eq_true rfl, Nat.le_of_ble_eq_true rfl⟩ ⟨Nat.le_of_ble_eq_true rfl, Nat.le_of_ble_eq_true rfl⟩ rfl rfl (Nat.le_of_ble_eq_true rfl) dX10_blow_12) (mM_within isB 0 1) (fun _ _ _ => zP0) rfl ?_
    refine z_ifB_eq hz 35 dX10_blow_15 (by decide) (fun c2 => ?_) (fun c2 => ?_)
    · refine z_aload_n hz dX10_blow_35 0 rfl rfl ?_
      refine z_ldc hz q2031 dX10_blow_36 ?_
      refine z_callD (bs2 := [zO (ad 99) 10 (mFs ad iv), zI (G.2.2.1 0) (ad 0) 602 g, zI (G.2.2.1 0) (ad 4) 6 (upd er 1 (er 1 + 1))]) (st2 := [.int (-1000001)]) hz hA (zk_V hz (rm := (zRm 0 0 0 0)) (As := [.int (-1000001)]) (rest := []) 1 q2032 q2034 qs35 q95 q2035 (by decide +kernel) ⟨Nat.le_of_ble_eq_true rfl, Nat.le_of_ble_eq_true rfl⟩ ⟨Nat.le_of_ble_eq_true rfl, Nat.le_of_ble_eq_true rfl⟩ (zRecv (q := (RX10, TX10, 29)) hz (zAt.mt 0 0 rfl rfl) rfl) rfl rfl (Nat.le_of_ble_eq_true rfl) dX10_blow_38) (mM_finding ad iv er (-1000001) 1 (by decide) (by decide)) [0, 2] rfl (by decide) rfl rfl ?_
      exact z_iret hQ hz hr hlk dX10_blow_41 (by
        have e9 : sBlow g (nI j) isB = (1, 0, g) := by simp [sBlow, inR, nI_clamp, c1, c2, t_j]
        rw [e9]; exact ⟨congrArg (fun z => some (Value.int z)) rE1, rfl⟩)
    · refine z_aload_n hz dX10_blow_18 0 rfl rfl ?_
      refine z_sipush hz 200 dX10_blow_19 ks_200 ?_
      refine z_iconst hz 3 dX10_blow_22 ki_3 ?_
      refine z_iload_n hz dX10_blow_23 1 rfl rfl ?_
      refine z_imulN hz kn_3 rfl dX10_blow_24 ?_
      refine z_iaddN hz kn_200 rfl dX10_blow_25 ?_
      refine z_iconst hz 2 dX10_blow_26 ki_2 ?_
      refine z_iaddN hz rfl kn_2 dX10_blow_27 ?_
      refine z_iload_n hz dX10_blow_28 2 rfl rfl ?_
      refine z_callD (bs2 := [zO (ad 99) 10 (mFs ad iv), zI (G.2.2.1 0) (ad 0) 602 (upd g ((200 + (3 * j)) + 2) isB), zI (G.2.2.1 0) (ad 4) 6 er]) (st2 := [.int (g ((200 + (3 * j)) + 2))]) hz hA (zk_V hz (rm := (zRm 0 0 0 0)) (As := [.int (nI ((200 + (3 * j)) + 2)), .int isB]) (rest := []) 2 q2027 q2029 qs34 q95 q2030 (by decide +kernel) ⟨Nat.le_of_ble_eq_true rfl, Nat.le_of_ble_eq_true rfl⟩ ⟨Nat.le_of_ble_eq_true rfl, Nat.le_of_ble_eq_true rfl⟩ (zRecv (q := (RX10, TX10, 29)) hz (zAt.mt 0 0 rfl rfl) rfl) rfl rfl (Nat.le_of_ble_eq_true rfl) dX10_blow_29) (mM_become ad iv g ((200 + (3 * j)) + 2) isB (by omega)) [0, 1] rfl (by decide) rfl rfl ?_
      refine z_goto hz 41 dX10_blow_32 (by decide) ?_
      exact z_iret hQ hz hr hlk dX10_blow_41 (by
        have e9 : sBlow g (nI j) isB = (0, g ((200 + (3 * j)) + 2), upd g ((200 + (3 * j)) + 2) isB) := by simp [sBlow, inR, nI_clamp, c1, c2, t_j]
        rw [e9]; exact ⟨rfl, rfl⟩)
set_option maxHeartbeats 400000 in
theorem mM_hour {G : zG} (ad : Nat → Nat) (iv g er : Nat → Int32) (hour v : Int32) : zMet G yX10_hour (ws_ yX10_hour cX10_hour 3 (some .int)) (zRm 2 0 0 60) [.ref (ad 99), .int hour, .int v] [zO (ad 99) 10 (mFs ad iv), zI (G.2.2.1 0) (ad 0) 602 g, zI (G.2.2.1 0) (ad 4) 6 er] (fun v9 b9 => v9 = some (.int (rOf (sHour g hour v))) ∧ b9 = [zO (ad 99) 10 (mFs ad iv), zI (G.2.2.1 0) (ad 0) 602 ((sHour g hour v).2.2), zI (G.2.2.1 0) (ad 4) 6 (eOf er (sHour g hour v))]) := by
  refine zMet.of (by decide +kernel) (Nat.le_of_ble_eq_true rfl) ?_
  intro p e s m args below meth c A hz hA hr hlk hnm9 Q hQ
  refine z_lv (lv' := [(0, .ref (ad 99)), (1, .int hour), (2, .int v)]) [0, 1, 2] rfl ?_
  refine z_iload_n hz dX10_hour_0 1 rfl rfl ?_
  refine z_iconst hz 0 dX10_hour_1 ki_0 ?_
  refine z_bipush hz 7 dX10_hour_2 kb_7 ?_
  refine z_callRD (st2 := [.int (zB (inR hour 0 7))]) hz zKp.mt (zk_S hz (rm := (zRm 0 0 0 0)) (As := [.int hour, .int 0, .int 7]) (rest := []) 3 q2023 q2024 q95 q2025 (by decide +kernel) ⟨Nat.le_of_ble_eq_true rfl, Nat.le_of_ble_eq_true rfl⟩ ⟨Nat.le_of_ble_eq_true rfl, Nat.le_of_ble_eq_true rfl⟩ rfl rfl (Nat.le_of_ble_eq_true rfl) dX10_hour_4) (mM_within hour 0 7) (fun _ _ _ => zP0) rfl ?_
  refine z_ifB_eq hz 33 dX10_hour_7 (by decide) (fun c1 => ?_) (fun c1 => ?_)
  · refine z_aload_n hz dX10_hour_33 0 rfl rfl ?_
    refine z_ldc hz q2031 dX10_hour_34 ?_
    refine z_callD (bs2 := [zO (ad 99) 10 (mFs ad iv), zI (G.2.2.1 0) (ad 0) 602 g, zI (G.2.2.1 0) (ad 4) 6 (upd er 1 (er 1 + 1))]) (st2 := [.int (-1000001)]) hz hA (zk_V hz (rm := (zRm 0 0 0 0)) (As := [.int (-1000001)]) (rest := []) 1 q2032 q2034 qs35 q95 q2035 (by decide +kernel) ⟨Nat.le_of_ble_eq_true rfl, Nat.le_of_ble_eq_true rfl⟩ ⟨Nat.le_of_ble_eq_true rfl, Nat.le_of_ble_eq_true rfl⟩ (zRecv (q := (RX10, TX10, 29)) hz (zAt.mt 0 0 rfl rfl) rfl) rfl rfl (Nat.le_of_ble_eq_true rfl) dX10_hour_36) (mM_finding ad iv er (-1000001) 1 (by decide) (by decide)) [0, 2] rfl (by decide) rfl rfl ?_
    exact z_iret hQ hz hr hlk dX10_hour_39 (by
      have e9 : sHour g hour v = (1, 0, g) := by simp [sHour, inR, nI_clamp, c1]
      rw [e9]; exact ⟨congrArg (fun z => some (Value.int z)) rE1, rfl⟩)
  · obtain ⟨j, j_lo, j_hi, rfl⟩ := inR_nat 0 7 kn_0 kn_7 (by decide) (by decide) c1
    have t_j : tN (nI j) = j := nI_clamp (by omega)
    refine z_iload_n hz dX10_hour_10 2 rfl rfl ?_
    refine z_iconst hz 0 dX10_hour_11 ki_0 ?_
    refine z_bipush hz 24 dX10_hour_12 kb_24 ?_
    refine z_callRD (st2 := [.int (zB (inR v 0 24))]) hz zKp.mt (zk_S hz (rm := (zRm 0 0 0 0)) (As := [.int v, .int 0, .int 24]) (rest := []) 3 q2023 q2024 q95 q2025 (by decide +kernel) ⟨Nat.le_of_ble_eq_true rfl, Nat.le_of_ble_eq_true rfl⟩ ⟨Nat.le_of_ble_eq_true rfl, Nat.le_of_ble_eq_true rfl⟩ rfl rfl (Nat.le_of_ble_eq_true rfl) dX10_hour_14) (mM_within v 0 24) (fun _ _ _ => zP0) rfl ?_
    refine z_ifB_eq hz 33 dX10_hour_17 (by decide) (fun c2 => ?_) (fun c2 => ?_)
    · refine z_aload_n hz dX10_hour_33 0 rfl rfl ?_
      refine z_ldc hz q2031 dX10_hour_34 ?_
      refine z_callD (bs2 := [zO (ad 99) 10 (mFs ad iv), zI (G.2.2.1 0) (ad 0) 602 g, zI (G.2.2.1 0) (ad 4) 6 (upd er 1 (er 1 + 1))]) (st2 := [.int (-1000001)]) hz hA (zk_V hz (rm := (zRm 0 0 0 0)) (As := [.int (-1000001)]) (rest := []) 1 q2032 q2034 qs35 q95 q2035 (by decide +kernel) ⟨Nat.le_of_ble_eq_true rfl, Nat.le_of_ble_eq_true rfl⟩ ⟨Nat.le_of_ble_eq_true rfl, Nat.le_of_ble_eq_true rfl⟩ (zRecv (q := (RX10, TX10, 29)) hz (zAt.mt 0 0 rfl rfl) rfl) rfl rfl (Nat.le_of_ble_eq_true rfl) dX10_hour_36) (mM_finding ad iv er (-1000001) 1 (by decide) (by decide)) [0, 2] rfl (by decide) rfl rfl ?_
      exact z_iret hQ hz hr hlk dX10_hour_39 (by
        have e9 : sHour g (nI j) v = (1, 0, g) := by simp [sHour, inR, nI_clamp, c1, c2, t_j]
        rw [e9]; exact ⟨congrArg (fun z => some (Value.int z)) rE1, rfl⟩)
    · refine z_aload_n hz dX10_hour_20 0 rfl rfl ?_
      refine z_sipush hz 284 dX10_hour_21 ks_284 ?_
      refine z_iload_n hz dX10_hour_24 1 rfl rfl ?_
      refine z_iaddN hz kn_284 rfl dX10_hour_25 ?_
      refine z_iload_n hz dX10_hour_26 2 rfl rfl ?_
      refine z_callD (bs2 := [zO (ad 99) 10 (mFs ad iv), zI (G.2.2.1 0) (ad 0) 602 (upd g (284 + j) v), zI (G.2.2.1 0) (ad 4) 6 er]) (st2 := [.int (g (284 + j))]) hz hA (zk_V hz (rm := (zRm 0 0 0 0)) (As := [.int (nI (284 + j)), .int v]) (rest := []) 2 q2027 q2029 qs34 q95 q2030 (by decide +kernel) ⟨Nat.le_of_ble_eq_true rfl, Nat.le_of_ble_eq_true rfl⟩ ⟨Nat.le_of_ble_eq_true rfl, Nat.le_of_ble_eq_true rfl⟩ (zRecv (q := (RX10, TX10, 29)) hz (zAt.mt 0 0 rfl rfl) rfl) rfl rfl (Nat.le_of_ble_eq_true rfl) dX10_hour_27) (mM_become ad iv g (284 + j) v (by omega)) [0, 1] rfl (by decide) rfl rfl ?_
      refine z_goto hz 39 dX10_hour_30 (by decide) ?_
      exact z_iret hQ hz hr hlk dX10_hour_39 (by
        have e9 : sHour g (nI j) v = (0, g (284 + j), upd g (284 + j) v) := by simp [sHour, inR, nI_clamp, c1, c2, t_j]
        rw [e9]; exact ⟨rfl, rfl⟩)
set_option maxHeartbeats 400000 in
theorem mM_cause {G : zG} (ad : Nat → Nat) (iv g er : Nat → Int32) (o sh : Int32) (nc : Nat) (hnc : g 5 = nI nc) (h10 : nc ≤ 10) : zMet G yX10_cause (ws_ yX10_cause cX10_cause 4 (some .int)) (zRm 2 0 0 60) [.ref (ad 99), .int o, .int sh] [zO (ad 99) 10 (mFs ad iv), zI (G.2.2.1 0) (ad 0) 602 g, zI (G.2.2.1 0) (ad 4) 6 er] (fun v9 b9 => v9 = some (.int (rOf (sCause g o sh))) ∧ b9 = [zO (ad 99) 10 (mFs ad iv), zI (G.2.2.1 0) (ad 0) 602 ((sCause g o sh).2.2), zI (G.2.2.1 0) (ad 4) 6 (eOf er (sCause g o sh))]) := by
  refine zMet.of (by decide +kernel) (Nat.le_of_ble_eq_true rfl) ?_
  intro p e s m args below meth c A hz hA hr hlk hnm9 Q hQ
  refine z_lv (lv' := [(0, .ref (ad 99)), (1, .int o), (2, .int sh)]) [0, 1, 2] rfl ?_
  have tnc : tN (nI nc) = nc := nI_clamp (by omega)
  refine z_iload_n hz dX10_cause_0 1 rfl rfl ?_
  refine z_iconst hz 0 dX10_cause_1 ki_0 ?_
  refine z_sipush hz 4095 dX10_cause_2 ks_4095 ?_
  refine z_callRD (st2 := [.int (zB (inR o 0 4095))]) hz zKp.mt (zk_S hz (rm := (zRm 0 0 0 0)) (As := [.int o, .int 0, .int 4095]) (rest := []) 3 q2023 q2024 q95 q2025 (by decide +kernel) ⟨Nat.le_of_ble_eq_true rfl, Nat.le_of_ble_eq_true rfl⟩ ⟨Nat.le_of_ble_eq_true rfl, Nat.le_of_ble_eq_true rfl⟩ rfl rfl (Nat.le_of_ble_eq_true rfl) dX10_cause_5) (mM_within o 0 4095) (fun _ _ _ => zP0) rfl ?_
  refine z_ifB_eq hz 28 dX10_cause_8 (by decide) (fun c1 => ?_) (fun c1 => ?_)
  · refine z_aload_n hz dX10_cause_28 0 rfl rfl ?_
    refine z_ldc hz q2031 dX10_cause_29 ?_
    refine z_callD (bs2 := [zO (ad 99) 10 (mFs ad iv), zI (G.2.2.1 0) (ad 0) 602 g, zI (G.2.2.1 0) (ad 4) 6 (upd er 1 (er 1 + 1))]) (st2 := [.int (-1000001)]) hz hA (zk_V hz (rm := (zRm 0 0 0 0)) (As := [.int (-1000001)]) (rest := []) 1 q2032 q2034 qs35 q95 q2035 (by decide +kernel) ⟨Nat.le_of_ble_eq_true rfl, Nat.le_of_ble_eq_true rfl⟩ ⟨Nat.le_of_ble_eq_true rfl, Nat.le_of_ble_eq_true rfl⟩ (zRecv (q := (RX10, TX10, 29)) hz (zAt.mt 0 0 rfl rfl) rfl) rfl rfl (Nat.le_of_ble_eq_true rfl) dX10_cause_31) (mM_finding ad iv er (-1000001) 1 (by decide) (by decide)) [0, 2] rfl (by decide) rfl rfl ?_
    exact z_iret hQ hz hr hlk dX10_cause_34 (by
      have e9 : sCause g o sh = (1, 0, g) := by simp [sCause, causeF, inR, nI_clamp, c1, hnc, tnc]
      rw [e9]; exact ⟨congrArg (fun z => some (Value.int z)) rE1, rfl⟩)
  · refine z_iload_n hz dX10_cause_11 2 rfl rfl ?_
    refine z_iconst hz 0 dX10_cause_12 ki_0 ?_
    refine z_sipush hz 4095 dX10_cause_13 ks_4095 ?_
    refine z_callRD (st2 := [.int (zB (inR sh 0 4095))]) hz zKp.mt (zk_S hz (rm := (zRm 0 0 0 0)) (As := [.int sh, .int 0, .int 4095]) (rest := []) 3 q2023 q2024 q95 q2025 (by decide +kernel) ⟨Nat.le_of_ble_eq_true rfl, Nat.le_of_ble_eq_true rfl⟩ ⟨Nat.le_of_ble_eq_true rfl, Nat.le_of_ble_eq_true rfl⟩ rfl rfl (Nat.le_of_ble_eq_true rfl) dX10_cause_16) (mM_within sh 0 4095) (fun _ _ _ => zP0) rfl ?_
    refine z_ifB_eq hz 28 dX10_cause_19 (by decide) (fun c2 => ?_) (fun c2 => ?_)
    · refine z_aload_n hz dX10_cause_28 0 rfl rfl ?_
      refine z_ldc hz q2031 dX10_cause_29 ?_
      refine z_callD (bs2 := [zO (ad 99) 10 (mFs ad iv), zI (G.2.2.1 0) (ad 0) 602 g, zI (G.2.2.1 0) (ad 4) 6 (upd er 1 (er 1 + 1))]) (st2 := [.int (-1000001)]) hz hA (zk_V hz (rm := (zRm 0 0 0 0)) (As := [.int (-1000001)]) (rest := []) 1 q2032 q2034 qs35 q95 q2035 (by decide +kernel) ⟨Nat.le_of_ble_eq_true rfl, Nat.le_of_ble_eq_true rfl⟩ ⟨Nat.le_of_ble_eq_true rfl, Nat.le_of_ble_eq_true rfl⟩ (zRecv (q := (RX10, TX10, 29)) hz (zAt.mt 0 0 rfl rfl) rfl) rfl rfl (Nat.le_of_ble_eq_true rfl) dX10_cause_31) (mM_finding ad iv er (-1000001) 1 (by decide) (by decide)) [0, 2] rfl (by decide) rfl rfl ?_
      exact z_iret hQ hz hr hlk dX10_cause_34 (by
        have e9 : sCause g o sh = (1, 0, g) := by simp [sCause, causeF, inR, nI_clamp, c1, c2, hnc, tnc]
        rw [e9]; exact ⟨congrArg (fun z => some (Value.int z)) rE1, rfl⟩)
    · refine z_iload_n hz dX10_cause_22 1 rfl rfl ?_
      refine z_iload_n hz dX10_cause_23 2 rfl rfl ?_
      refine z_iand hz dX10_cause_24 ?_
      refine z_if_eq hz 35 dX10_cause_25 (by decide) (fun c3 => ?_) (fun c3 => ?_)
      · refine z_aload_n hz dX10_cause_35 0 rfl rfl ?_
        refine z_get (C := RX10) (T := TX10) (N := 29) hz in_X10 (zAt.mt 0 0 rfl rfl) rfl 0 (by decide) q1929 (fun _ h9 => h9) rfl dX10_cause_36 ?_
        refine z_iconst hz 5 dX10_cause_39 ki_5 ?_
        refine z_iald hz (zAt.mt 1 0 rfl rfl) kn_5 (by decide) (by decide) dX10_cause_40 ?_
        refine z_top hnc ?_
        refine z_istore_n (lv' := [(0, .ref (ad 99)), (1, .int o), (2, .int sh), (3, .int (nI nc))]) hz [1, 2, 3, 0] dX10_cause_41 rfl (by decide) rfl ?_
        refine z_iload_n hz dX10_cause_42 3 rfl rfl ?_
        refine z_bipush hz 10 dX10_cause_43 kb_10 ?_
        refine z_icmpN_ne hz rfl kn_10 (by omega) (by decide) 55 dX10_cause_45 (by decide) (fun c4 => ?_) (fun c4 => ?_)
        · refine z_aload_n hz dX10_cause_55 0 rfl rfl ?_
          refine z_get (C := RX10) (T := TX10) (N := 29) hz in_X10 (zAt.mt 0 0 rfl rfl) rfl 0 (by decide) q1929 (fun _ h9 => h9) rfl dX10_cause_56 ?_
          refine z_sipush hz 292 dX10_cause_59 ks_292 ?_
          refine z_iconst hz 2 dX10_cause_62 ki_2 ?_
          refine z_iload_n hz dX10_cause_63 3 rfl rfl ?_
          refine z_imulN hz kn_2 rfl dX10_cause_64 ?_
          refine z_iaddN hz kn_292 rfl dX10_cause_65 ?_
          refine z_iload_n hz dX10_cause_66 1 rfl rfl ?_
          refine z_iast hz 1 0 rfl rfl rfl (by omega) (by decide) dX10_cause_67 ?_
          refine z_bs (bs2 := [zO (ad 99) 10 (mFs ad iv), zI (G.2.2.1 0) (ad 0) 602 (upd g (292 + (2 * nc)) o), zI (G.2.2.1 0) (ad 4) 6 er]) rfl ?_
          refine z_aload_n hz dX10_cause_68 0 rfl rfl ?_
          refine z_get (C := RX10) (T := TX10) (N := 29) hz in_X10 (zAt.mt 0 0 rfl rfl) rfl 0 (by decide) q1929 (fun _ h9 => h9) rfl dX10_cause_69 ?_
          refine z_sipush hz 292 dX10_cause_72 ks_292 ?_
          refine z_iconst hz 2 dX10_cause_75 ki_2 ?_
          refine z_iload_n hz dX10_cause_76 3 rfl rfl ?_
          refine z_imulN hz kn_2 rfl dX10_cause_77 ?_
          refine z_iaddN hz kn_292 rfl dX10_cause_78 ?_
          refine z_iconst hz 1 dX10_cause_79 ki_1 ?_
          refine z_iaddN hz rfl kn_1 dX10_cause_80 ?_
          refine z_iload_n hz dX10_cause_81 2 rfl rfl ?_
          refine z_iast hz 1 0 rfl rfl rfl (by omega) (by decide) dX10_cause_82 ?_
          refine z_bs (bs2 := [zO (ad 99) 10 (mFs ad iv), zI (G.2.2.1 0) (ad 0) 602 (upd (upd g (292 + (2 * nc)) o) ((292 + (2 * nc)) + 1) sh), zI (G.2.2.1 0) (ad 4) 6 er]) rfl ?_
          refine z_aload_n hz dX10_cause_83 0 rfl rfl ?_
          refine z_get (C := RX10) (T := TX10) (N := 29) hz in_X10 (zAt.mt 0 0 rfl rfl) rfl 0 (by decide) q1929 (fun _ h9 => h9) rfl dX10_cause_84 ?_
          refine z_iconst hz 5 dX10_cause_87 ki_5 ?_
          refine z_dup2 hz dX10_cause_88 rfl rfl ?_
          refine z_iald hz (zAt.mt 1 0 rfl rfl) kn_5 (by decide) (by decide) dX10_cause_89 ?_
          refine z_top (ld_ne (by omega) (ld_ne (by omega) hnc)) ?_
          refine z_iconst hz 1 dX10_cause_90 ki_1 ?_
          refine z_iaddN hz rfl kn_1 dX10_cause_91 ?_
          refine z_iast hz 1 0 rfl rfl kn_5 (by decide) (by decide) dX10_cause_92 ?_
          refine z_bs (bs2 := [zO (ad 99) 10 (mFs ad iv), zI (G.2.2.1 0) (ad 0) 602 (upd (upd (upd g (292 + (2 * nc)) o) ((292 + (2 * nc)) + 1) sh) 5 (nI (nc + 1))), zI (G.2.2.1 0) (ad 4) 6 er]) rfl ?_
          refine z_iload_n hz dX10_cause_93 3 rfl rfl ?_
          exact z_iret hQ hz hr hlk dX10_cause_94 (by
            have e9 : sCause g o sh = (0, nI nc, upd (upd (upd g (292 + (2 * nc)) o) ((292 + (2 * nc)) + 1) sh) 5 (nI (nc + 1))) := by simp [sCause, causeF, inR, nI_clamp, c1, c2, c3, c4, hnc, tnc]
            rw [e9]; exact ⟨rfl, rfl⟩)
        · refine z_aload_n hz dX10_cause_48 0 rfl rfl ?_
          refine z_ldc hz q2044 dX10_cause_49 ?_
          refine z_callD (bs2 := [zO (ad 99) 10 (mFs ad iv), zI (G.2.2.1 0) (ad 0) 602 g, zI (G.2.2.1 0) (ad 4) 6 (upd er 4 (er 4 + 1))]) (st2 := [.int (-1000004)]) hz hA (zk_V hz (rm := (zRm 0 0 0 0)) (As := [.int (-1000004)]) (rest := []) 1 q2032 q2034 qs35 q95 q2035 (by decide +kernel) ⟨Nat.le_of_ble_eq_true rfl, Nat.le_of_ble_eq_true rfl⟩ ⟨Nat.le_of_ble_eq_true rfl, Nat.le_of_ble_eq_true rfl⟩ (zRecv (q := (RX10, TX10, 29)) hz (zAt.mt 0 0 rfl rfl) rfl) rfl rfl (Nat.le_of_ble_eq_true rfl) dX10_cause_51) (mM_finding ad iv er (-1000004) 4 (by decide) (by decide)) [0, 2] rfl (by decide) rfl rfl ?_
          exact z_iret hQ hz hr hlk dX10_cause_54 (by
            have e9 : sCause g o sh = (4, 0, g) := by simp [sCause, causeF, inR, nI_clamp, c1, c2, c3, c4, hnc, tnc]
            rw [e9]; exact ⟨congrArg (fun z => some (Value.int z)) rE4, rfl⟩)
      · refine z_aload_n hz dX10_cause_28 0 rfl rfl ?_
        refine z_ldc hz q2031 dX10_cause_29 ?_
        refine z_callD (bs2 := [zO (ad 99) 10 (mFs ad iv), zI (G.2.2.1 0) (ad 0) 602 g, zI (G.2.2.1 0) (ad 4) 6 (upd er 1 (er 1 + 1))]) (st2 := [.int (-1000001)]) hz hA (zk_V hz (rm := (zRm 0 0 0 0)) (As := [.int (-1000001)]) (rest := []) 1 q2032 q2034 qs35 q95 q2035 (by decide +kernel) ⟨Nat.le_of_ble_eq_true rfl, Nat.le_of_ble_eq_true rfl⟩ ⟨Nat.le_of_ble_eq_true rfl, Nat.le_of_ble_eq_true rfl⟩ (zRecv (q := (RX10, TX10, 29)) hz (zAt.mt 0 0 rfl rfl) rfl) rfl rfl (Nat.le_of_ble_eq_true rfl) dX10_cause_31) (mM_finding ad iv er (-1000001) 1 (by decide) (by decide)) [0, 2] rfl (by decide) rfl rfl ?_
        exact z_iret hQ hz hr hlk dX10_cause_34 (by
          have e9 : sCause g o sh = (1, 0, g) := by simp [sCause, causeF, inR, nI_clamp, c1, c2, c3, hnc, tnc]
          rw [e9]; exact ⟨congrArg (fun z => some (Value.int z)) rE1, rfl⟩)
set_option maxHeartbeats 400000 in
theorem mM_found {G : zG} (ad : Nat → Nat) (iv g er : Nat → Int32) (valve o : Int32) : zMet G yX10_found (ws_ yX10_found cX10_found 3 (some .int)) (zRm 2 0 0 60) [.ref (ad 99), .int valve, .int o] [zO (ad 99) 10 (mFs ad iv), zI (G.2.2.1 0) (ad 0) 602 g, zI (G.2.2.1 0) (ad 4) 6 er] (fun v9 b9 => v9 = some (.int (rOf (sFound g valve o))) ∧ b9 = [zO (ad 99) 10 (mFs ad iv), zI (G.2.2.1 0) (ad 0) 602 ((sFound g valve o).2.2), zI (G.2.2.1 0) (ad 4) 6 (eOf er (sFound g valve o))]) := by
  refine zMet.of (by decide +kernel) (Nat.le_of_ble_eq_true rfl) ?_
  intro p e s m args below meth c A hz hA hr hlk hnm9 Q hQ
  refine z_lv (lv' := [(0, .ref (ad 99)), (1, .int valve), (2, .int o)]) [0, 1, 2] rfl ?_
  refine z_iload_n hz dX10_found_0 1 rfl rfl ?_
  refine z_iconst hz 0 dX10_found_1 ki_0 ?_
  refine z_bipush hz 11 dX10_found_2 kb_11 ?_
  refine z_callRD (st2 := [.int (zB (inR valve 0 11))]) hz zKp.mt (zk_S hz (rm := (zRm 0 0 0 0)) (As := [.int valve, .int 0, .int 11]) (rest := []) 3 q2023 q2024 q95 q2025 (by decide +kernel) ⟨Nat.le_of_ble_eq_true rfl, Nat.le_of_ble_eq_true rfl⟩ ⟨Nat.le_of_ble_eq_true rfl, Nat.le_of_ble_eq_true rfl⟩ rfl rfl (Nat.le_of_ble_eq_true rfl) dX10_found_4) (mM_within valve 0 11) (fun _ _ _ => zP0) rfl ?_
  refine z_ifB_eq hz 32 dX10_found_7 (by decide) (fun c1 => ?_) (fun c1 => ?_)
  · refine z_aload_n hz dX10_found_32 0 rfl rfl ?_
    refine z_ldc hz q2031 dX10_found_33 ?_
    refine z_callD (bs2 := [zO (ad 99) 10 (mFs ad iv), zI (G.2.2.1 0) (ad 0) 602 g, zI (G.2.2.1 0) (ad 4) 6 (upd er 1 (er 1 + 1))]) (st2 := [.int (-1000001)]) hz hA (zk_V hz (rm := (zRm 0 0 0 0)) (As := [.int (-1000001)]) (rest := []) 1 q2032 q2034 qs35 q95 q2035 (by decide +kernel) ⟨Nat.le_of_ble_eq_true rfl, Nat.le_of_ble_eq_true rfl⟩ ⟨Nat.le_of_ble_eq_true rfl, Nat.le_of_ble_eq_true rfl⟩ (zRecv (q := (RX10, TX10, 29)) hz (zAt.mt 0 0 rfl rfl) rfl) rfl rfl (Nat.le_of_ble_eq_true rfl) dX10_found_35) (mM_finding ad iv er (-1000001) 1 (by decide) (by decide)) [0, 2] rfl (by decide) rfl rfl ?_
    exact z_iret hQ hz hr hlk dX10_found_38 (by
      have e9 : sFound g valve o = (1, 0, g) := by simp [sFound, inR, nI_clamp, c1]
      rw [e9]; exact ⟨congrArg (fun z => some (Value.int z)) rE1, rfl⟩)
  · obtain ⟨j, j_lo, j_hi, rfl⟩ := inR_nat 0 11 kn_0 kn_11 (by decide) (by decide) c1
    have t_j : tN (nI j) = j := nI_clamp (by omega)
    refine z_iload_n hz dX10_found_10 2 rfl rfl ?_
    refine z_iconst hz (-1) dX10_found_11 ki_m1 ?_
    refine z_iconst hz 1 dX10_found_12 ki_1 ?_
    refine z_callRD (st2 := [.int (zB (inR o (-1) 1))]) hz zKp.mt (zk_S hz (rm := (zRm 0 0 0 0)) (As := [.int o, .int (-1), .int 1]) (rest := []) 3 q2023 q2024 q95 q2025 (by decide +kernel) ⟨Nat.le_of_ble_eq_true rfl, Nat.le_of_ble_eq_true rfl⟩ ⟨Nat.le_of_ble_eq_true rfl, Nat.le_of_ble_eq_true rfl⟩ rfl rfl (Nat.le_of_ble_eq_true rfl) dX10_found_13) (mM_within o (-1) 1) (fun _ _ _ => zP0) rfl ?_
    refine z_ifB_eq hz 32 dX10_found_16 (by decide) (fun c2 => ?_) (fun c2 => ?_)
    · refine z_aload_n hz dX10_found_32 0 rfl rfl ?_
      refine z_ldc hz q2031 dX10_found_33 ?_
      refine z_callD (bs2 := [zO (ad 99) 10 (mFs ad iv), zI (G.2.2.1 0) (ad 0) 602 g, zI (G.2.2.1 0) (ad 4) 6 (upd er 1 (er 1 + 1))]) (st2 := [.int (-1000001)]) hz hA (zk_V hz (rm := (zRm 0 0 0 0)) (As := [.int (-1000001)]) (rest := []) 1 q2032 q2034 qs35 q95 q2035 (by decide +kernel) ⟨Nat.le_of_ble_eq_true rfl, Nat.le_of_ble_eq_true rfl⟩ ⟨Nat.le_of_ble_eq_true rfl, Nat.le_of_ble_eq_true rfl⟩ (zRecv (q := (RX10, TX10, 29)) hz (zAt.mt 0 0 rfl rfl) rfl) rfl rfl (Nat.le_of_ble_eq_true rfl) dX10_found_35) (mM_finding ad iv er (-1000001) 1 (by decide) (by decide)) [0, 2] rfl (by decide) rfl rfl ?_
      exact z_iret hQ hz hr hlk dX10_found_38 (by
        have e9 : sFound g (nI j) o = (1, 0, g) := by simp [sFound, inR, nI_clamp, c1, c2, t_j]
        rw [e9]; exact ⟨congrArg (fun z => some (Value.int z)) rE1, rfl⟩)
    · refine z_aload_n hz dX10_found_19 0 rfl rfl ?_
      refine z_sipush hz 312 dX10_found_20 ks_312 ?_
      refine z_iload_n hz dX10_found_23 1 rfl rfl ?_
      refine z_iaddN hz kn_312 rfl dX10_found_24 ?_
      refine z_iload_n hz dX10_found_25 2 rfl rfl ?_
      refine z_callD (bs2 := [zO (ad 99) 10 (mFs ad iv), zI (G.2.2.1 0) (ad 0) 602 (upd g (312 + j) o), zI (G.2.2.1 0) (ad 4) 6 er]) (st2 := [.int (g (312 + j))]) hz hA (zk_V hz (rm := (zRm 0 0 0 0)) (As := [.int (nI (312 + j)), .int o]) (rest := []) 2 q2027 q2029 qs34 q95 q2030 (by decide +kernel) ⟨Nat.le_of_ble_eq_true rfl, Nat.le_of_ble_eq_true rfl⟩ ⟨Nat.le_of_ble_eq_true rfl, Nat.le_of_ble_eq_true rfl⟩ (zRecv (q := (RX10, TX10, 29)) hz (zAt.mt 0 0 rfl rfl) rfl) rfl rfl (Nat.le_of_ble_eq_true rfl) dX10_found_26) (mM_become ad iv g (312 + j) o (by omega)) [0, 1] rfl (by decide) rfl rfl ?_
      refine z_goto hz 38 dX10_found_29 (by decide) ?_
      exact z_iret hQ hz hr hlk dX10_found_38 (by
        have e9 : sFound g (nI j) o = (0, g (312 + j), upd g (312 + j) o) := by simp [sFound, inR, nI_clamp, c1, c2, t_j]
        rw [e9]; exact ⟨rfl, rfl⟩)
set_option maxHeartbeats 400000 in
theorem mM_seed {G : zG} (ad : Nat → Nat) (iv g er : Nat → Int32) (v : Int32) : zMet G yX10_seed (ws_ yX10_seed cX10_seed 2 (some .int)) (zRm 2 0 0 60) [.ref (ad 99), .int v] [zO (ad 99) 10 (mFs ad iv), zI (G.2.2.1 0) (ad 0) 602 g, zI (G.2.2.1 0) (ad 4) 6 er] (fun v9 b9 => v9 = some (.int (rOf (sSeed g v))) ∧ b9 = [zO (ad 99) 10 (mFs ad iv), zI (G.2.2.1 0) (ad 0) 602 ((sSeed g v).2.2), zI (G.2.2.1 0) (ad 4) 6 (eOf er (sSeed g v))]) := by
  refine zMet.of (by decide +kernel) (Nat.le_of_ble_eq_true rfl) ?_
  intro p e s m args below meth c A hz hA hr hlk hnm9 Q hQ
  refine z_lv (lv' := [(0, .ref (ad 99)), (1, .int v)]) [0, 1] rfl ?_
  refine z_aload_n hz dX10_seed_0 0 rfl rfl ?_
  refine z_bipush hz 8 dX10_seed_1 kb_8 ?_
  refine z_iload_n hz dX10_seed_3 1 rfl rfl ?_
  refine z_callD (bs2 := [zO (ad 99) 10 (mFs ad iv), zI (G.2.2.1 0) (ad 0) 602 (upd g 8 v), zI (G.2.2.1 0) (ad 4) 6 er]) (st2 := [.int (g 8)]) hz hA (zk_V hz (rm := (zRm 0 0 0 0)) (As := [.int 8, .int v]) (rest := []) 2 q2027 q2029 qs34 q95 q2030 (by decide +kernel) ⟨Nat.le_of_ble_eq_true rfl, Nat.le_of_ble_eq_true rfl⟩ ⟨Nat.le_of_ble_eq_true rfl, Nat.le_of_ble_eq_true rfl⟩ (zRecv (q := (RX10, TX10, 29)) hz (zAt.mt 0 0 rfl rfl) rfl) rfl rfl (Nat.le_of_ble_eq_true rfl) dX10_seed_4) (mM_become ad iv g 8 v (by omega)) [0, 1] rfl (by decide) rfl rfl ?_
  exact z_iret hQ hz hr hlk dX10_seed_7 (by
    have e9 : sSeed g v = (0, g 8, upd g 8 v) := by simp [sSeed, inR, nI_clamp]
    rw [e9]; exact ⟨rfl, rfl⟩)
set_option maxHeartbeats 400000 in
theorem mM_tell {G : zG} (ad : Nat → Nat) (iv g er : Nat → Int32) (v : Int32) (nw : Nat) (hnw : g 7 = nI nw) (h20 : nw ≤ 20) : zMet G yX10_tell (ws_ yX10_tell cX10_tell 2 (some .int)) (zRm 2 0 0 60) [.ref (ad 99), .int v] [zO (ad 99) 10 (mFs ad iv), zI (G.2.2.1 0) (ad 0) 602 g, zI (G.2.2.1 0) (ad 4) 6 er] (fun v9 b9 => v9 = some (.int (rOf (sTell g v))) ∧ b9 = [zO (ad 99) 10 (mFs ad iv), zI (G.2.2.1 0) (ad 0) 602 ((sTell g v).2.2), zI (G.2.2.1 0) (ad 4) 6 (eOf er (sTell g v))]) := by
  refine zMet.of (by decide +kernel) (Nat.le_of_ble_eq_true rfl) ?_
  intro p e s m args below meth c A hz hA hr hlk hnm9 Q hQ
  refine z_lv (lv' := [(0, .ref (ad 99)), (1, .int v)]) [0, 1] rfl ?_
  have tnw : tN (nI nw) = nw := nI_clamp (by omega)
  refine z_aload_n hz dX10_tell_0 0 rfl rfl ?_
  refine z_get (C := RX10) (T := TX10) (N := 29) hz in_X10 (zAt.mt 0 0 rfl rfl) rfl 0 (by decide) q1929 (fun _ h9 => h9) rfl dX10_tell_1 ?_
  refine z_bipush hz 7 dX10_tell_4 kb_7 ?_
  refine z_iald hz (zAt.mt 1 0 rfl rfl) kn_7 (by decide) (by decide) dX10_tell_6 ?_
  refine z_top hnw ?_
  refine z_bipush hz 20 dX10_tell_7 kb_20 ?_
  refine z_icmpN_ne hz rfl kn_20 (by omega) (by decide) 19 dX10_tell_9 (by decide) (fun c1 => ?_) (fun c1 => ?_)
  · refine z_aload_n hz dX10_tell_19 0 rfl rfl ?_
    refine z_get (C := RX10) (T := TX10) (N := 29) hz in_X10 (zAt.mt 0 0 rfl rfl) rfl 0 (by decide) q1929 (fun _ h9 => h9) rfl dX10_tell_20 ?_
    refine z_sipush hz 374 dX10_tell_23 ks_374 ?_
    refine z_aload_n hz dX10_tell_26 0 rfl rfl ?_
    refine z_get (C := RX10) (T := TX10) (N := 29) hz in_X10 (zAt.mt 0 0 rfl rfl) rfl 0 (by decide) q1929 (fun _ h9 => h9) rfl dX10_tell_27 ?_
    refine z_bipush hz 7 dX10_tell_30 kb_7 ?_
    refine z_iald hz (zAt.mt 1 0 rfl rfl) kn_7 (by decide) (by decide) dX10_tell_32 ?_
    refine z_top hnw ?_
    refine z_iaddN hz kn_374 rfl dX10_tell_33 ?_
    refine z_iload_n hz dX10_tell_34 1 rfl rfl ?_
    refine z_iast hz 1 0 rfl rfl rfl (by omega) (by decide) dX10_tell_35 ?_
    refine z_bs (bs2 := [zO (ad 99) 10 (mFs ad iv), zI (G.2.2.1 0) (ad 0) 602 (upd g (374 + nw) v), zI (G.2.2.1 0) (ad 4) 6 er]) rfl ?_
    refine z_aload_n hz dX10_tell_36 0 rfl rfl ?_
    refine z_get (C := RX10) (T := TX10) (N := 29) hz in_X10 (zAt.mt 0 0 rfl rfl) rfl 0 (by decide) q1929 (fun _ h9 => h9) rfl dX10_tell_37 ?_
    refine z_bipush hz 7 dX10_tell_40 kb_7 ?_
    refine z_dup2 hz dX10_tell_42 rfl rfl ?_
    refine z_iald hz (zAt.mt 1 0 rfl rfl) kn_7 (by decide) (by decide) dX10_tell_43 ?_
    refine z_top (ld_ne (by omega) hnw) ?_
    refine z_iconst hz 1 dX10_tell_44 ki_1 ?_
    refine z_iaddN hz rfl kn_1 dX10_tell_45 ?_
    refine z_iast hz 1 0 rfl rfl kn_7 (by decide) (by decide) dX10_tell_46 ?_
    refine z_bs (bs2 := [zO (ad 99) 10 (mFs ad iv), zI (G.2.2.1 0) (ad 0) 602 (upd (upd g (374 + nw) v) 7 (nI (nw + 1))), zI (G.2.2.1 0) (ad 4) 6 er]) rfl ?_
    refine z_aload_n hz dX10_tell_47 0 rfl rfl ?_
    refine z_get (C := RX10) (T := TX10) (N := 29) hz in_X10 (zAt.mt 0 0 rfl rfl) rfl 0 (by decide) q1929 (fun _ h9 => h9) rfl dX10_tell_48 ?_
    refine z_bipush hz 7 dX10_tell_51 kb_7 ?_
    refine z_iald hz (zAt.mt 1 0 rfl rfl) kn_7 (by decide) (by decide) dX10_tell_53 ?_
    refine z_top ld_self ?_
    exact z_iret hQ hz hr hlk dX10_tell_54 (by
      have e9 : sTell g v = (0, nI (nw + 1), upd (upd g (374 + nw) v) 7 (nI (nw + 1))) := by simp [sTell, inR, nI_clamp, c1, hnw, tnw]
      rw [e9]; exact ⟨rfl, rfl⟩)
  · refine z_aload_n hz dX10_tell_12 0 rfl rfl ?_
    refine z_ldc hz q2044 dX10_tell_13 ?_
    refine z_callD (bs2 := [zO (ad 99) 10 (mFs ad iv), zI (G.2.2.1 0) (ad 0) 602 g, zI (G.2.2.1 0) (ad 4) 6 (upd er 4 (er 4 + 1))]) (st2 := [.int (-1000004)]) hz hA (zk_V hz (rm := (zRm 0 0 0 0)) (As := [.int (-1000004)]) (rest := []) 1 q2032 q2034 qs35 q95 q2035 (by decide +kernel) ⟨Nat.le_of_ble_eq_true rfl, Nat.le_of_ble_eq_true rfl⟩ ⟨Nat.le_of_ble_eq_true rfl, Nat.le_of_ble_eq_true rfl⟩ (zRecv (q := (RX10, TX10, 29)) hz (zAt.mt 0 0 rfl rfl) rfl) rfl rfl (Nat.le_of_ble_eq_true rfl) dX10_tell_15) (mM_finding ad iv er (-1000004) 4 (by decide) (by decide)) [0, 2] rfl (by decide) rfl rfl ?_
    exact z_iret hQ hz hr hlk dX10_tell_18 (by
      have e9 : sTell g v = (4, 0, g) := by simp [sTell, inR, nI_clamp, c1, hnw, tnw]
      rw [e9]; exact ⟨congrArg (fun z => some (Value.int z)) rE4, rfl⟩)
set_option maxHeartbeats 400000 in
theorem mM_way {G : zG} (ad : Nat → Nat) (iv g er : Nat → Int32) (kind t k rk : Int32) (nw : Nat) (hnw : g 3 = nI nw) (h12 : nw ≤ 12) : zMet G yX10_way (ws_ yX10_way cX10_way 7 (some .int)) (zRm 2 0 0 60) [.ref (ad 99), .int kind, .int t, .int k, .int rk] [zO (ad 99) 10 (mFs ad iv), zI (G.2.2.1 0) (ad 0) 602 g, zI (G.2.2.1 0) (ad 4) 6 er] (fun v9 b9 => v9 = some (.int (rOf (sWay g kind t k rk))) ∧ b9 = [zO (ad 99) 10 (mFs ad iv), zI (G.2.2.1 0) (ad 0) 602 ((sWay g kind t k rk).2.2), zI (G.2.2.1 0) (ad 4) 6 (eOf er (sWay g kind t k rk))]) := by
  refine zMet.of (by decide +kernel) (Nat.le_of_ble_eq_true rfl) ?_
  intro p e s m args below meth c A hz hA hr hlk hnm9 Q hQ
  refine z_lv (lv' := [(0, .ref (ad 99)), (1, .int kind), (2, .int t), (3, .int k), (4, .int rk)]) [0, 1, 2, 3, 4] rfl ?_
  have tnw : tN (nI nw) = nw := nI_clamp (by omega)
  refine z_iload_n hz dX10_way_0 1 rfl rfl ?_
  refine z_iconst hz 0 dX10_way_1 ki_0 ?_
  refine z_bipush hz 7 dX10_way_2 kb_7 ?_
  refine z_callRD (st2 := [.int (zB (inR kind 0 7))]) hz zKp.mt (zk_S hz (rm := (zRm 0 0 0 0)) (As := [.int kind, .int 0, .int 7]) (rest := []) 3 q2023 q2024 q95 q2025 (by decide +kernel) ⟨Nat.le_of_ble_eq_true rfl, Nat.le_of_ble_eq_true rfl⟩ ⟨Nat.le_of_ble_eq_true rfl, Nat.le_of_ble_eq_true rfl⟩ rfl rfl (Nat.le_of_ble_eq_true rfl) dX10_way_4) (mM_within kind 0 7) (fun _ _ _ => zP0) rfl ?_
  refine z_ifB_eq hz 42 dX10_way_7 (by decide) (fun c1 => ?_) (fun c1 => ?_)
  · refine z_aload_n hz dX10_way_42 0 rfl rfl ?_
    refine z_ldc hz q2031 dX10_way_43 ?_
    refine z_callD (bs2 := [zO (ad 99) 10 (mFs ad iv), zI (G.2.2.1 0) (ad 0) 602 g, zI (G.2.2.1 0) (ad 4) 6 (upd er 1 (er 1 + 1))]) (st2 := [.int (-1000001)]) hz hA (zk_V hz (rm := (zRm 0 0 0 0)) (As := [.int (-1000001)]) (rest := []) 1 q2032 q2034 qs35 q95 q2035 (by decide +kernel) ⟨Nat.le_of_ble_eq_true rfl, Nat.le_of_ble_eq_true rfl⟩ ⟨Nat.le_of_ble_eq_true rfl, Nat.le_of_ble_eq_true rfl⟩ (zRecv (q := (RX10, TX10, 29)) hz (zAt.mt 0 0 rfl rfl) rfl) rfl rfl (Nat.le_of_ble_eq_true rfl) dX10_way_45) (mM_finding ad iv er (-1000001) 1 (by decide) (by decide)) [0, 2] rfl (by decide) rfl rfl ?_
    exact z_iret hQ hz hr hlk dX10_way_48 (by
      have e9 : sWay g kind t k rk = (1, 0, g) := by simp [sWay, wayF, inR, nI_clamp, c1, hnw, tnw]
      rw [e9]; exact ⟨congrArg (fun z => some (Value.int z)) rE1, rfl⟩)
  · refine z_iload_n hz dX10_way_10 2 rfl rfl ?_
    refine z_iconst hz 1 dX10_way_11 ki_1 ?_
    refine z_sipush hz 600 dX10_way_12 ks_600 ?_
    refine z_callRD (st2 := [.int (zB (inR t 1 600))]) hz zKp.mt (zk_S hz (rm := (zRm 0 0 0 0)) (As := [.int t, .int 1, .int 600]) (rest := []) 3 q2023 q2024 q95 q2025 (by decide +kernel) ⟨Nat.le_of_ble_eq_true rfl, Nat.le_of_ble_eq_true rfl⟩ ⟨Nat.le_of_ble_eq_true rfl, Nat.le_of_ble_eq_true rfl⟩ rfl rfl (Nat.le_of_ble_eq_true rfl) dX10_way_15) (mM_within t 1 600) (fun _ _ _ => zP0) rfl ?_
    refine z_ifB_eq hz 42 dX10_way_18 (by decide) (fun c2 => ?_) (fun c2 => ?_)
    · refine z_aload_n hz dX10_way_42 0 rfl rfl ?_
      refine z_ldc hz q2031 dX10_way_43 ?_
      refine z_callD (bs2 := [zO (ad 99) 10 (mFs ad iv), zI (G.2.2.1 0) (ad 0) 602 g, zI (G.2.2.1 0) (ad 4) 6 (upd er 1 (er 1 + 1))]) (st2 := [.int (-1000001)]) hz hA (zk_V hz (rm := (zRm 0 0 0 0)) (As := [.int (-1000001)]) (rest := []) 1 q2032 q2034 qs35 q95 q2035 (by decide +kernel) ⟨Nat.le_of_ble_eq_true rfl, Nat.le_of_ble_eq_true rfl⟩ ⟨Nat.le_of_ble_eq_true rfl, Nat.le_of_ble_eq_true rfl⟩ (zRecv (q := (RX10, TX10, 29)) hz (zAt.mt 0 0 rfl rfl) rfl) rfl rfl (Nat.le_of_ble_eq_true rfl) dX10_way_45) (mM_finding ad iv er (-1000001) 1 (by decide) (by decide)) [0, 2] rfl (by decide) rfl rfl ?_
      exact z_iret hQ hz hr hlk dX10_way_48 (by
        have e9 : sWay g kind t k rk = (1, 0, g) := by simp [sWay, wayF, inR, nI_clamp, c1, c2, hnw, tnw]
        rw [e9]; exact ⟨congrArg (fun z => some (Value.int z)) rE1, rfl⟩)
    · refine z_iload_n hz dX10_way_21 3 rfl rfl ?_
      refine z_iconst hz 1 dX10_way_22 ki_1 ?_
      refine z_bipush hz 9 dX10_way_23 kb_9 ?_
      refine z_callRD (st2 := [.int (zB (inR k 1 9))]) hz zKp.mt (zk_S hz (rm := (zRm 0 0 0 0)) (As := [.int k, .int 1, .int 9]) (rest := []) 3 q2023 q2024 q95 q2025 (by decide +kernel) ⟨Nat.le_of_ble_eq_true rfl, Nat.le_of_ble_eq_true rfl⟩ ⟨Nat.le_of_ble_eq_true rfl, Nat.le_of_ble_eq_true rfl⟩ rfl rfl (Nat.le_of_ble_eq_true rfl) dX10_way_25) (mM_within k 1 9) (fun _ _ _ => zP0) rfl ?_
      refine z_ifB_eq hz 42 dX10_way_28 (by decide) (fun c3 => ?_) (fun c3 => ?_)
      · refine z_aload_n hz dX10_way_42 0 rfl rfl ?_
        refine z_ldc hz q2031 dX10_way_43 ?_
        refine z_callD (bs2 := [zO (ad 99) 10 (mFs ad iv), zI (G.2.2.1 0) (ad 0) 602 g, zI (G.2.2.1 0) (ad 4) 6 (upd er 1 (er 1 + 1))]) (st2 := [.int (-1000001)]) hz hA (zk_V hz (rm := (zRm 0 0 0 0)) (As := [.int (-1000001)]) (rest := []) 1 q2032 q2034 qs35 q95 q2035 (by decide +kernel) ⟨Nat.le_of_ble_eq_true rfl, Nat.le_of_ble_eq_true rfl⟩ ⟨Nat.le_of_ble_eq_true rfl, Nat.le_of_ble_eq_true rfl⟩ (zRecv (q := (RX10, TX10, 29)) hz (zAt.mt 0 0 rfl rfl) rfl) rfl rfl (Nat.le_of_ble_eq_true rfl) dX10_way_45) (mM_finding ad iv er (-1000001) 1 (by decide) (by decide)) [0, 2] rfl (by decide) rfl rfl ?_
        exact z_iret hQ hz hr hlk dX10_way_48 (by
          have e9 : sWay g kind t k rk = (1, 0, g) := by simp [sWay, wayF, inR, nI_clamp, c1, c2, c3, hnw, tnw]
          rw [e9]; exact ⟨congrArg (fun z => some (Value.int z)) rE1, rfl⟩)
      · refine z_iload hz dX10_way_31 4 rfl ?_
        refine z_iconst hz 0 dX10_way_33 ki_0 ?_
        refine z_bipush hz 100 dX10_way_34 kb_100 ?_
        refine z_callRD (st2 := [.int (zB (inR rk 0 100))]) hz zKp.mt (zk_S hz (rm := (zRm 0 0 0 0)) (As := [.int rk, .int 0, .int 100]) (rest := []) 3 q2023 q2024 q95 q2025 (by decide +kernel) ⟨Nat.le_of_ble_eq_true rfl, Nat.le_of_ble_eq_true rfl⟩ ⟨Nat.le_of_ble_eq_true rfl, Nat.le_of_ble_eq_true rfl⟩ rfl rfl (Nat.le_of_ble_eq_true rfl) dX10_way_36) (mM_within rk 0 100) (fun _ _ _ => zP0) rfl ?_
        refine z_ifB_ne hz 49 dX10_way_39 (by decide) (fun c4 => ?_) (fun c4 => ?_)
        · refine z_aload_n hz dX10_way_49 0 rfl rfl ?_
          refine z_get (C := RX10) (T := TX10) (N := 29) hz in_X10 (zAt.mt 0 0 rfl rfl) rfl 0 (by decide) q1929 (fun _ h9 => h9) rfl dX10_way_50 ?_
          refine z_iconst hz 3 dX10_way_53 ki_3 ?_
          refine z_iald hz (zAt.mt 1 0 rfl rfl) kn_3 (by decide) (by decide) dX10_way_54 ?_
          refine z_top hnw ?_
          refine z_istore (lv' := [(0, .ref (ad 99)), (1, .int kind), (2, .int t), (3, .int k), (4, .int rk), (5, .int (nI nw))]) hz [1, 2, 3, 4, 5, 0] dX10_way_55 (by decide) rfl ?_
          refine z_iload hz dX10_way_57 5 rfl ?_
          refine z_bipush hz 12 dX10_way_59 kb_12 ?_
          refine z_icmpN_ne hz rfl kn_12 (by omega) (by decide) 71 dX10_way_61 (by decide) (fun c5 => ?_) (fun c5 => ?_)
          · refine z_sipush hz 152 dX10_way_71 ks_152 ?_
            refine z_iconst hz 4 dX10_way_74 ki_4 ?_
            refine z_iload hz dX10_way_75 5 rfl ?_
            refine z_imulN hz kn_4 rfl dX10_way_77 ?_
            refine z_iaddN hz kn_152 rfl dX10_way_78 ?_
            refine z_istore (lv' := [(0, .ref (ad 99)), (1, .int kind), (2, .int t), (3, .int k), (4, .int rk), (5, .int (nI nw)), (6, .int (nI (152 + (4 * nw))))]) hz [1, 2, 3, 4, 5, 6, 0] dX10_way_79 (by decide) rfl ?_
            refine z_aload_n hz dX10_way_81 0 rfl rfl ?_
            refine z_get (C := RX10) (T := TX10) (N := 29) hz in_X10 (zAt.mt 0 0 rfl rfl) rfl 0 (by decide) q1929 (fun _ h9 => h9) rfl dX10_way_82 ?_
            refine z_iload hz dX10_way_85 6 rfl ?_
            refine z_iconst hz 0 dX10_way_87 ki_0 ?_
            refine z_iaddN hz rfl kn_0 dX10_way_88 ?_
            refine z_iload_n hz dX10_way_89 1 rfl rfl ?_
            refine z_iast hz 1 0 rfl rfl rfl (by omega) (by decide) dX10_way_90 ?_
            refine z_bs (bs2 := [zO (ad 99) 10 (mFs ad iv), zI (G.2.2.1 0) (ad 0) 602 (upd g (152 + (4 * nw)) kind), zI (G.2.2.1 0) (ad 4) 6 er]) rfl ?_
            refine z_aload_n hz dX10_way_91 0 rfl rfl ?_
            refine z_get (C := RX10) (T := TX10) (N := 29) hz in_X10 (zAt.mt 0 0 rfl rfl) rfl 0 (by decide) q1929 (fun _ h9 => h9) rfl dX10_way_92 ?_
            refine z_iload hz dX10_way_95 6 rfl ?_
            refine z_iconst hz 1 dX10_way_97 ki_1 ?_
            refine z_iaddN hz rfl kn_1 dX10_way_98 ?_
            refine z_iload_n hz dX10_way_99 2 rfl rfl ?_
            refine z_iast hz 1 0 rfl rfl rfl (by omega) (by decide) dX10_way_100 ?_
            refine z_bs (bs2 := [zO (ad 99) 10 (mFs ad iv), zI (G.2.2.1 0) (ad 0) 602 (upd (upd g (152 + (4 * nw)) kind) ((152 + (4 * nw)) + 1) t), zI (G.2.2.1 0) (ad 4) 6 er]) rfl ?_
            refine z_aload_n hz dX10_way_101 0 rfl rfl ?_
            refine z_get (C := RX10) (T := TX10) (N := 29) hz in_X10 (zAt.mt 0 0 rfl rfl) rfl 0 (by decide) q1929 (fun _ h9 => h9) rfl dX10_way_102 ?_
            refine z_iload hz dX10_way_105 6 rfl ?_
            refine z_iconst hz 2 dX10_way_107 ki_2 ?_
            refine z_iaddN hz rfl kn_2 dX10_way_108 ?_
            refine z_iload_n hz dX10_way_109 3 rfl rfl ?_
            refine z_iast hz 1 0 rfl rfl rfl (by omega) (by decide) dX10_way_110 ?_
            refine z_bs (bs2 := [zO (ad 99) 10 (mFs ad iv), zI (G.2.2.1 0) (ad 0) 602 (upd (upd (upd g (152 + (4 * nw)) kind) ((152 + (4 * nw)) + 1) t) ((152 + (4 * nw)) + 2) k), zI (G.2.2.1 0) (ad 4) 6 er]) rfl ?_
            refine z_aload_n hz dX10_way_111 0 rfl rfl ?_
            refine z_get (C := RX10) (T := TX10) (N := 29) hz in_X10 (zAt.mt 0 0 rfl rfl) rfl 0 (by decide) q1929 (fun _ h9 => h9) rfl dX10_way_112 ?_
            refine z_iload hz dX10_way_115 6 rfl ?_
            refine z_iconst hz 3 dX10_way_117 ki_3 ?_
            refine z_iaddN hz rfl kn_3 dX10_way_118 ?_
            refine z_iload hz dX10_way_119 4 rfl ?_
            refine z_iast hz 1 0 rfl rfl rfl (by omega) (by decide) dX10_way_121 ?_
            refine z_bs (bs2 := [zO (ad 99) 10 (mFs ad iv), zI (G.2.2.1 0) (ad 0) 602 (upd (upd (upd (upd g (152 + (4 * nw)) kind) ((152 + (4 * nw)) + 1) t) ((152 + (4 * nw)) + 2) k) ((152 + (4 * nw)) + 3) rk), zI (G.2.2.1 0) (ad 4) 6 er]) rfl ?_
            refine z_aload_n hz dX10_way_122 0 rfl rfl ?_
            refine z_get (C := RX10) (T := TX10) (N := 29) hz in_X10 (zAt.mt 0 0 rfl rfl) rfl 0 (by decide) q1929 (fun _ h9 => h9) rfl dX10_way_123 ?_
            refine z_iconst hz 3 dX10_way_126 ki_3 ?_
            refine z_dup2 hz dX10_way_127 rfl rfl ?_
            refine z_iald hz (zAt.mt 1 0 rfl rfl) kn_3 (by decide) (by decide) dX10_way_128 ?_
            refine z_top (ld_ne (by omega) (ld_ne (by omega) (ld_ne (by omega) (ld_ne (by omega) hnw)))) ?_
            refine z_iconst hz 1 dX10_way_129 ki_1 ?_
            refine z_iaddN hz rfl kn_1 dX10_way_130 ?_
            refine z_iast hz 1 0 rfl rfl kn_3 (by decide) (by decide) dX10_way_131 ?_
            refine z_bs (bs2 := [zO (ad 99) 10 (mFs ad iv), zI (G.2.2.1 0) (ad 0) 602 (upd (upd (upd (upd (upd g (152 + (4 * nw)) kind) ((152 + (4 * nw)) + 1) t) ((152 + (4 * nw)) + 2) k) ((152 + (4 * nw)) + 3) rk) 3 (nI (nw + 1))), zI (G.2.2.1 0) (ad 4) 6 er]) rfl ?_
            refine z_iload hz dX10_way_132 5 rfl ?_
            exact z_iret hQ hz hr hlk dX10_way_134 (by
              have e9 : sWay g kind t k rk = (0, nI nw, upd (upd (upd (upd (upd g (152 + (4 * nw)) kind) ((152 + (4 * nw)) + 1) t) ((152 + (4 * nw)) + 2) k) ((152 + (4 * nw)) + 3) rk) 3 (nI (nw + 1))) := by simp [sWay, wayF, inR, nI_clamp, c1, c2, c3, c4, c5, hnw, tnw]
              rw [e9]; exact ⟨rfl, rfl⟩)
          · refine z_aload_n hz dX10_way_64 0 rfl rfl ?_
            refine z_ldc hz q2044 dX10_way_65 ?_
            refine z_callD (bs2 := [zO (ad 99) 10 (mFs ad iv), zI (G.2.2.1 0) (ad 0) 602 g, zI (G.2.2.1 0) (ad 4) 6 (upd er 4 (er 4 + 1))]) (st2 := [.int (-1000004)]) hz hA (zk_V hz (rm := (zRm 0 0 0 0)) (As := [.int (-1000004)]) (rest := []) 1 q2032 q2034 qs35 q95 q2035 (by decide +kernel) ⟨Nat.le_of_ble_eq_true rfl, Nat.le_of_ble_eq_true rfl⟩ ⟨Nat.le_of_ble_eq_true rfl, Nat.le_of_ble_eq_true rfl⟩ (zRecv (q := (RX10, TX10, 29)) hz (zAt.mt 0 0 rfl rfl) rfl) rfl rfl (Nat.le_of_ble_eq_true rfl) dX10_way_67) (mM_finding ad iv er (-1000004) 4 (by decide) (by decide)) [0, 2] rfl (by decide) rfl rfl ?_
            exact z_iret hQ hz hr hlk dX10_way_70 (by
              have e9 : sWay g kind t k rk = (4, 0, g) := by simp [sWay, wayF, inR, nI_clamp, c1, c2, c3, c4, c5, hnw, tnw]
              rw [e9]; exact ⟨congrArg (fun z => some (Value.int z)) rE4, rfl⟩)
        · refine z_aload_n hz dX10_way_42 0 rfl rfl ?_
          refine z_ldc hz q2031 dX10_way_43 ?_
          refine z_callD (bs2 := [zO (ad 99) 10 (mFs ad iv), zI (G.2.2.1 0) (ad 0) 602 g, zI (G.2.2.1 0) (ad 4) 6 (upd er 1 (er 1 + 1))]) (st2 := [.int (-1000001)]) hz hA (zk_V hz (rm := (zRm 0 0 0 0)) (As := [.int (-1000001)]) (rest := []) 1 q2032 q2034 qs35 q95 q2035 (by decide +kernel) ⟨Nat.le_of_ble_eq_true rfl, Nat.le_of_ble_eq_true rfl⟩ ⟨Nat.le_of_ble_eq_true rfl, Nat.le_of_ble_eq_true rfl⟩ (zRecv (q := (RX10, TX10, 29)) hz (zAt.mt 0 0 rfl rfl) rfl) rfl rfl (Nat.le_of_ble_eq_true rfl) dX10_way_45) (mM_finding ad iv er (-1000001) 1 (by decide) (by decide)) [0, 2] rfl (by decide) rfl rfl ?_
          exact z_iret hQ hz hr hlk dX10_way_48 (by
            have e9 : sWay g kind t k rk = (1, 0, g) := by simp [sWay, wayF, inR, nI_clamp, c1, c2, c3, c4, hnw, tnw]
            rw [e9]; exact ⟨congrArg (fun z => some (Value.int z)) rE1, rfl⟩)
set_option maxHeartbeats 400000 in
theorem mM_way2 {G : zG} (ad : Nat → Nat) (iv g : Nat → Int32) (wi f : Nat) (hm : 152 + 4 * wi + f < 602) : zRd G yX10_way_2 (ws_ yX10_way_2 cX10_way_2 3 (some .int)) (zRm 0 0 0 0) [.ref (ad 99), .int (nI wi), .int (nI f)] [(ad 99, .inr (10, mFs ad iv)), (ad 0, .inl (G.2.2.1 0, 602, .inl g))] (fun v9 => v9 = some (.int (g (152 + 4 * wi + f)))) := by
  refine zRd.of (by decide +kernel) (Nat.le_of_ble_eq_true rfl) ?_
  intro p e s m args below meth c hz hP hr hlk Q hQ
  refine z_lv (lv' := [(0, .ref (ad 99)), (1, .int (nI wi)), (2, .int (nI f))]) [0, 1, 2] rfl ?_
  refine z_aload_n hz dX10_way_2_0 0 rfl rfl ?_
  refine z_get (C := RX10) (T := TX10) (N := 29) hz in_X10 (zAt.rd hP 0 rfl) rfl 0 (by decide) q1929 (fun _ h9 => h9) rfl dX10_way_2_1 ?_
  refine z_sipush hz 152 dX10_way_2_4 ks_152 ?_
  refine z_iconst hz 4 dX10_way_2_7 ki_4 ?_
  refine z_iload_n hz dX10_way_2_8 1 rfl rfl ?_
  refine z_imulN hz kn_4 rfl dX10_way_2_9 ?_
  refine z_iaddN hz kn_152 rfl dX10_way_2_10 ?_
  refine z_iload_n hz dX10_way_2_11 2 rfl rfl ?_
  refine z_iaddN hz rfl rfl dX10_way_2_12 ?_
  refine z_iald hz (zAt.rd hP 1 rfl) rfl (by omega) (by decide) dX10_way_2_13 ?_
  exact zr_iret hQ hz hr hlk dX10_way_2_14 rfl
set_option maxHeartbeats 400000 in
theorem mM_isPart {G : zG} (ab : Int32) : zRd G yX10_isPart (ws_ yX10_isPart cX10_isPart 1 (some .boolean)) (zRm 1 0 0 30) [.int ab] [] (fun v9 => v9 = some (.int (zB (isPartP ab)))) := by
  refine zRd.of (by decide +kernel) (Nat.le_of_ble_eq_true rfl) ?_
  intro p e s m args below meth c hz hP hr hlk Q hQ
  refine z_lv (lv' := [(0, .int ab)]) [0] rfl ?_
  refine z_iload_n hz dX10_isPart_0 0 rfl rfl ?_
  refine z_if_lt hz 32 dX10_isPart_1 (by decide) (fun c1 => ?_) (fun c1 => ?_)
  · refine z_iconst hz 0 dX10_isPart_32 ki_0 ?_
    exact zr_zret hQ hz hr hlk (by decide) dX10_isPart_33 (congrArg (fun z => some (Value.int z)) (zB_f (P := isPartP ab) (fun h9 => Int32.not_le.mpr c1 h9.1)).symm)
  · refine z_iload_n hz dX10_isPart_4 0 rfl rfl ?_
    refine z_bipush hz 10 dX10_isPart_5 kb_10 ?_
    refine z_irem hz dX10_isPart_7 (by decide) ?_
    refine z_iconst hz 1 dX10_isPart_8 ki_1 ?_
    refine z_bipush hz 6 dX10_isPart_9 kb_6 ?_
    refine z_callRD (st2 := [.int (zB (inR (ab - ab / 10 * 10) 1 6))]) hz zKp.rd (zk_S hz (rm := (zRm 0 0 0 0)) (As := [.int (ab - ab / 10 * 10), .int 1, .int 6]) (rest := []) 3 q2023 q2024 q95 q2025 (by decide +kernel) ⟨Nat.le_of_ble_eq_true rfl, Nat.le_of_ble_eq_true rfl⟩ ⟨Nat.le_of_ble_eq_true rfl, Nat.le_of_ble_eq_true rfl⟩ rfl rfl (Nat.le_of_ble_eq_true rfl) dX10_isPart_11) (mM_within (ab - ab / 10 * 10) 1 6) (fun _ _ _ => zP0) rfl ?_
    refine z_ifB_eq hz 32 dX10_isPart_14 (by decide) (fun c2 => ?_) (fun c2 => ?_)
    · refine z_iconst hz 0 dX10_isPart_32 ki_0 ?_
      exact zr_zret hQ hz hr hlk (by decide) dX10_isPart_33 (congrArg (fun z => some (Value.int z)) (zB_f (P := isPartP ab) (fun h9 => c2 h9.2.1)).symm)
    · refine z_iload_n hz dX10_isPart_17 0 rfl rfl ?_
      refine z_bipush hz 10 dX10_isPart_18 kb_10 ?_
      refine z_idiv hz dX10_isPart_20 (by decide) ?_
      refine z_iload_n hz dX10_isPart_21 0 rfl rfl ?_
      refine z_bipush hz 10 dX10_isPart_22 kb_10 ?_
      refine z_irem hz dX10_isPart_24 (by decide) ?_
      refine z_icmp_gt hz 32 dX10_isPart_25 (by decide) (fun c3 => ?_) (fun c3 => ?_)
      · refine z_iconst hz 0 dX10_isPart_32 ki_0 ?_
        exact zr_zret hQ hz hr hlk (by decide) dX10_isPart_33 (congrArg (fun z => some (Value.int z)) (zB_f (P := isPartP ab) (fun h9 => Int32.not_le.mpr c3 h9.2.2)).symm)
      · refine z_iconst hz 1 dX10_isPart_28 ki_1 ?_
        refine z_goto hz 33 dX10_isPart_29 (by decide) ?_
        exact zr_zret hQ hz hr hlk (by decide) dX10_isPart_33 (congrArg (fun z => some (Value.int z)) (zB_t (P := isPartP ab) ⟨Int32.not_lt.mp c1, c2, Int32.not_lt.mp c3⟩).symm)
set_option maxHeartbeats 400000 in
theorem mM_beside {G : zG} (ad : Nat → Nat) (iv g er : Nat → Int32) (nn mm ab : Int32) : zMet G yX10_beside (ws_ yX10_beside cX10_beside 6 (some .int)) (zRm 3 0 0 90) [.ref (ad 99), .int nn, .int mm, .int ab] [zO (ad 99) 10 (mFs ad iv), zI (G.2.2.1 0) (ad 0) 602 g, zI (G.2.2.1 0) (ad 4) 6 er] (fun v9 b9 => v9 = some (.int (rOf (sBeside g nn mm ab))) ∧ b9 = [zO (ad 99) 10 (mFs ad iv), zI (G.2.2.1 0) (ad 0) 602 ((sBeside g nn mm ab).2.2), zI (G.2.2.1 0) (ad 4) 6 (eOf er (sBeside g nn mm ab))]) := by
  refine zMet.of (by decide +kernel) (Nat.le_of_ble_eq_true rfl) ?_
  intro p e s m args below meth c A hz hA hr hlk hnm9 Q hQ
  refine z_lv (lv' := [(0, .ref (ad 99)), (1, .int nn), (2, .int mm), (3, .int ab)]) [0, 1, 2, 3] rfl ?_
  refine z_iload_n hz dX10_beside_0 1 rfl rfl ?_
  refine z_iconst hz 1 dX10_beside_1 ki_1 ?_
  refine z_bipush hz 12 dX10_beside_2 kb_12 ?_
  refine z_callRD (st2 := [.int (zB (inR nn 1 12))]) hz zKp.mt (zk_S hz (rm := (zRm 0 0 0 0)) (As := [.int nn, .int 1, .int 12]) (rest := []) 3 q2023 q2024 q95 q2025 (by decide +kernel) ⟨Nat.le_of_ble_eq_true rfl, Nat.le_of_ble_eq_true rfl⟩ ⟨Nat.le_of_ble_eq_true rfl, Nat.le_of_ble_eq_true rfl⟩ rfl rfl (Nat.le_of_ble_eq_true rfl) dX10_beside_4) (mM_within nn 1 12) (fun _ _ _ => zP0) rfl ?_
  refine z_ifB_eq hz 26 dX10_beside_7 (by decide) (fun c1 => ?_) (fun c1 => ?_)
  · refine z_aload_n hz dX10_beside_26 0 rfl rfl ?_
    refine z_ldc hz q2031 dX10_beside_27 ?_
    refine z_callD (bs2 := [zO (ad 99) 10 (mFs ad iv), zI (G.2.2.1 0) (ad 0) 602 g, zI (G.2.2.1 0) (ad 4) 6 (upd er 1 (er 1 + 1))]) (st2 := [.int (-1000001)]) hz hA (zk_V hz (rm := (zRm 0 0 0 0)) (As := [.int (-1000001)]) (rest := []) 1 q2032 q2034 qs35 q95 q2035 (by decide +kernel) ⟨Nat.le_of_ble_eq_true rfl, Nat.le_of_ble_eq_true rfl⟩ ⟨Nat.le_of_ble_eq_true rfl, Nat.le_of_ble_eq_true rfl⟩ (zRecv (q := (RX10, TX10, 29)) hz (zAt.mt 0 0 rfl rfl) rfl) rfl rfl (Nat.le_of_ble_eq_true rfl) dX10_beside_29) (mM_finding ad iv er (-1000001) 1 (by decide) (by decide)) [0, 2] rfl (by decide) rfl rfl ?_
    exact z_iret hQ hz hr hlk dX10_beside_32 (by
      have e9 : sBeside g nn mm ab = (1, 0, g) := by simp [sBeside, inR, nI_clamp, c1]
      rw [e9]; exact ⟨congrArg (fun z => some (Value.int z)) rE1, rfl⟩)
  · refine z_iload_n hz dX10_beside_10 2 rfl rfl ?_
    refine z_iconst hz 0 dX10_beside_11 ki_0 ?_
    refine z_iload_n hz dX10_beside_12 1 rfl rfl ?_
    refine z_callRD (st2 := [.int (zB (inR mm 0 nn))]) hz zKp.mt (zk_S hz (rm := (zRm 0 0 0 0)) (As := [.int mm, .int 0, .int nn]) (rest := []) 3 q2023 q2024 q95 q2025 (by decide +kernel) ⟨Nat.le_of_ble_eq_true rfl, Nat.le_of_ble_eq_true rfl⟩ ⟨Nat.le_of_ble_eq_true rfl, Nat.le_of_ble_eq_true rfl⟩ rfl rfl (Nat.le_of_ble_eq_true rfl) dX10_beside_13) (mM_within mm 0 nn) (fun _ _ _ => zP0) rfl ?_
    refine z_ifB_eq hz 26 dX10_beside_16 (by decide) (fun c2 => ?_) (fun c2 => ?_)
    · refine z_aload_n hz dX10_beside_26 0 rfl rfl ?_
      refine z_ldc hz q2031 dX10_beside_27 ?_
      refine z_callD (bs2 := [zO (ad 99) 10 (mFs ad iv), zI (G.2.2.1 0) (ad 0) 602 g, zI (G.2.2.1 0) (ad 4) 6 (upd er 1 (er 1 + 1))]) (st2 := [.int (-1000001)]) hz hA (zk_V hz (rm := (zRm 0 0 0 0)) (As := [.int (-1000001)]) (rest := []) 1 q2032 q2034 qs35 q95 q2035 (by decide +kernel) ⟨Nat.le_of_ble_eq_true rfl, Nat.le_of_ble_eq_true rfl⟩ ⟨Nat.le_of_ble_eq_true rfl, Nat.le_of_ble_eq_true rfl⟩ (zRecv (q := (RX10, TX10, 29)) hz (zAt.mt 0 0 rfl rfl) rfl) rfl rfl (Nat.le_of_ble_eq_true rfl) dX10_beside_29) (mM_finding ad iv er (-1000001) 1 (by decide) (by decide)) [0, 2] rfl (by decide) rfl rfl ?_
      exact z_iret hQ hz hr hlk dX10_beside_32 (by
        have e9 : sBeside g nn mm ab = (1, 0, g) := by simp [sBeside, inR, nI_clamp, c1, c2]
        rw [e9]; exact ⟨congrArg (fun z => some (Value.int z)) rE1, rfl⟩)
    · refine z_iload_n hz dX10_beside_19 3 rfl rfl ?_
      refine z_callRD (st2 := [.int (zB (isPartP ab))]) hz zKp.mt (zk_S hz (rm := (zRm 1 0 0 30)) (As := [.int ab]) (rest := []) 1 q2303 q2304 q95 q2305 (by decide +kernel) ⟨Nat.le_of_ble_eq_true rfl, Nat.le_of_ble_eq_true rfl⟩ ⟨Nat.le_of_ble_eq_true rfl, Nat.le_of_ble_eq_true rfl⟩ rfl rfl (Nat.le_of_ble_eq_true rfl) dX10_beside_20) (mM_isPart ab) (fun _ _ _ => zP0) rfl ?_
      refine z_ifB_ne hz 33 dX10_beside_23 (by decide) (fun c3 => ?_) (fun c3 => ?_)
      · refine z_iload_n hz dX10_beside_33 2 rfl rfl ?_
        refine z_iload_n hz dX10_beside_34 3 rfl rfl ?_
        refine z_bipush hz 10 dX10_beside_35 kb_10 ?_
        refine z_irem hz dX10_beside_37 (by decide) ?_
        refine z_imul hz dX10_beside_38 ?_
        refine z_istore (lv' := [(0, .ref (ad 99)), (1, .int nn), (2, .int mm), (3, .int ab), (4, .int (mm * (ab - ab / 10 * 10)))]) hz [1, 2, 3, 4, 0] dX10_beside_39 (by decide) rfl ?_
        refine z_iload_n hz dX10_beside_41 1 rfl rfl ?_
        refine z_iload_n hz dX10_beside_42 3 rfl rfl ?_
        refine z_bipush hz 10 dX10_beside_43 kb_10 ?_
        refine z_idiv hz dX10_beside_45 (by decide) ?_
        refine z_imul hz dX10_beside_46 ?_
        refine z_istore (lv' := [(0, .ref (ad 99)), (1, .int nn), (2, .int mm), (3, .int ab), (4, .int (mm * (ab - ab / 10 * 10))), (5, .int (nn * (ab / 10)))]) hz [1, 2, 3, 4, 5, 0] dX10_beside_47 (by decide) rfl ?_
        refine z_iload hz dX10_beside_49 4 rfl ?_
        refine z_iload hz dX10_beside_51 5 rfl ?_
        refine z_icmp_le hz 60 dX10_beside_53 (by decide) (fun c4 => ?_) (fun c4 => ?_)
        · refine z_iload hz dX10_beside_60 5 rfl ?_
          refine z_iload hz dX10_beside_62 4 rfl ?_
          refine z_icmp_le hz 71 dX10_beside_64 (by decide) (fun c5 => ?_) (fun c5 => ?_)
          · refine z_iconst hz 2 dX10_beside_71 ki_2 ?_
            exact z_iret hQ hz hr hlk dX10_beside_72 (by
              have e9 : sBeside g nn mm ab = (0, 2, g) := by simp only [sBeside, besideF]; rw [if_pos ⟨c1, c2, c3⟩, if_neg (Int32.not_lt.mpr c4), if_neg (Int32.not_lt.mpr c5)]
              rw [e9]; exact ⟨rfl, rfl⟩)
          · refine z_iconst hz 1 dX10_beside_67 ki_1 ?_
            refine z_goto hz 72 dX10_beside_68 (by decide) ?_
            exact z_iret hQ hz hr hlk dX10_beside_72 (by
              have e9 : sBeside g nn mm ab = (0, 1, g) := by simp only [sBeside, besideF]; rw [if_pos ⟨c1, c2, c3⟩, if_neg (Int32.not_lt.mpr c4), if_pos (Int32.not_le.mp c5)]
              rw [e9]; exact ⟨rfl, rfl⟩)
        · refine z_iconst hz 0 dX10_beside_56 ki_0 ?_
          refine z_goto hz 72 dX10_beside_57 (by decide) ?_
          exact z_iret hQ hz hr hlk dX10_beside_72 (by
            have e9 : sBeside g nn mm ab = (0, 0, g) := by simp only [sBeside, besideF]; rw [if_pos ⟨c1, c2, c3⟩, if_pos (Int32.not_le.mp c4)]
            rw [e9]; exact ⟨rfl, rfl⟩)
      · refine z_aload_n hz dX10_beside_26 0 rfl rfl ?_
        refine z_ldc hz q2031 dX10_beside_27 ?_
        refine z_callD (bs2 := [zO (ad 99) 10 (mFs ad iv), zI (G.2.2.1 0) (ad 0) 602 g, zI (G.2.2.1 0) (ad 4) 6 (upd er 1 (er 1 + 1))]) (st2 := [.int (-1000001)]) hz hA (zk_V hz (rm := (zRm 0 0 0 0)) (As := [.int (-1000001)]) (rest := []) 1 q2032 q2034 qs35 q95 q2035 (by decide +kernel) ⟨Nat.le_of_ble_eq_true rfl, Nat.le_of_ble_eq_true rfl⟩ ⟨Nat.le_of_ble_eq_true rfl, Nat.le_of_ble_eq_true rfl⟩ (zRecv (q := (RX10, TX10, 29)) hz (zAt.mt 0 0 rfl rfl) rfl) rfl rfl (Nat.le_of_ble_eq_true rfl) dX10_beside_29) (mM_finding ad iv er (-1000001) 1 (by decide) (by decide)) [0, 2] rfl (by decide) rfl rfl ?_
        exact z_iret hQ hz hr hlk dX10_beside_32 (by
          have e9 : sBeside g nn mm ab = (1, 0, g) := by simp [sBeside, inR, nI_clamp, c1, c2, c3]
          rw [e9]; exact ⟨congrArg (fun z => some (Value.int z)) rE1, rfl⟩)
set_option maxHeartbeats 1000000 in
theorem mM_plan {G : zG} (ad : Nat → Nat) (iv g er : Nat → Int32) (side fr to place : Int32) (hpl : ∀ j, j < 2 → ∃ q, q ≤ 10 ∧ g (11 + j) = nI q) : zMet G yX10_plan (ws_ yX10_plan cX10_plan 7 (some .int)) (zRm 2 0 0 60) [.ref (ad 99), .int side, .int fr, .int to, .int place] [zO (ad 99) 10 (mFs ad iv), zI (G.2.2.1 0) (ad 0) 602 g, zI (G.2.2.1 0) (ad 4) 6 er] (fun v9 b9 => v9 = some (.int (rOf (sPlan g side fr to place))) ∧ b9 = [zO (ad 99) 10 (mFs ad iv), zI (G.2.2.1 0) (ad 0) 602 ((sPlan g side fr to place).2.2), zI (G.2.2.1 0) (ad 4) 6 (eOf er (sPlan g side fr to place))]) := by
  refine zMet.of (by decide +kernel) (Nat.le_of_ble_eq_true rfl) ?_
  intro p e s m args below meth c A hz hA hr hlk hnm9 Q hQ
  refine z_lv (lv' := [(0, .ref (ad 99)), (1, .int side), (2, .int fr), (3, .int to), (4, .int place)]) [0, 1, 2, 3, 4] rfl ?_
  refine z_iload_n hz dX10_plan_0 1 rfl rfl ?_
  refine z_iconst hz 0 dX10_plan_1 ki_0 ?_
  refine z_iconst hz 1 dX10_plan_2 ki_1 ?_
  refine z_callRD (st2 := [.int (zB (inR side 0 1))]) hz zKp.mt (zk_S hz (rm := (zRm 0 0 0 0)) (As := [.int side, .int 0, .int 1]) (rest := []) 3 q2023 q2024 q95 q2025 (by decide +kernel) ⟨Nat.le_of_ble_eq_true rfl, Nat.le_of_ble_eq_true rfl⟩ ⟨Nat.le_of_ble_eq_true rfl, Nat.le_of_ble_eq_true rfl⟩ rfl rfl (Nat.le_of_ble_eq_true rfl) dX10_plan_3) (mM_within side 0 1) (fun _ _ _ => zP0) rfl ?_
  refine z_ifB_eq hz 42 dX10_plan_6 (by decide) (fun c1 => ?_) (fun c1 => ?_)
  · refine z_aload_n hz dX10_plan_42 0 rfl rfl ?_
    refine z_ldc hz q2031 dX10_plan_43 ?_
    refine z_callD (bs2 := [zO (ad 99) 10 (mFs ad iv), zI (G.2.2.1 0) (ad 0) 602 g, zI (G.2.2.1 0) (ad 4) 6 (upd er 1 (er 1 + 1))]) (st2 := [.int (-1000001)]) hz hA (zk_V hz (rm := (zRm 0 0 0 0)) (As := [.int (-1000001)]) (rest := []) 1 q2032 q2034 qs35 q95 q2035 (by decide +kernel) ⟨Nat.le_of_ble_eq_true rfl, Nat.le_of_ble_eq_true rfl⟩ ⟨Nat.le_of_ble_eq_true rfl, Nat.le_of_ble_eq_true rfl⟩ (zRecv (q := (RX10, TX10, 29)) hz (zAt.mt 0 0 rfl rfl) rfl) rfl rfl (Nat.le_of_ble_eq_true rfl) dX10_plan_45) (mM_finding ad iv er (-1000001) 1 (by decide) (by decide)) [0, 2] rfl (by decide) rfl rfl ?_
    exact z_iret hQ hz hr hlk dX10_plan_48 (by
      have e9 : sPlan g side fr to place = (1, 0, g) := by simp [sPlan, planF, inR, nI_clamp, c1]
      rw [e9]; exact ⟨congrArg (fun z => some (Value.int z)) rE1, rfl⟩)
  · refine z_iload_n hz dX10_plan_9 2 rfl rfl ?_
    refine z_iconst hz 0 dX10_plan_10 ki_0 ?_
    refine z_sipush hz 2399 dX10_plan_11 ks_2399 ?_
    refine z_callRD (st2 := [.int (zB (inR fr 0 2399))]) hz zKp.mt (zk_S hz (rm := (zRm 0 0 0 0)) (As := [.int fr, .int 0, .int 2399]) (rest := []) 3 q2023 q2024 q95 q2025 (by decide +kernel) ⟨Nat.le_of_ble_eq_true rfl, Nat.le_of_ble_eq_true rfl⟩ ⟨Nat.le_of_ble_eq_true rfl, Nat.le_of_ble_eq_true rfl⟩ rfl rfl (Nat.le_of_ble_eq_true rfl) dX10_plan_14) (mM_within fr 0 2399) (fun _ _ _ => zP0) rfl ?_
    refine z_ifB_eq hz 42 dX10_plan_17 (by decide) (fun c2 => ?_) (fun c2 => ?_)
    · refine z_aload_n hz dX10_plan_42 0 rfl rfl ?_
      refine z_ldc hz q2031 dX10_plan_43 ?_
      refine z_callD (bs2 := [zO (ad 99) 10 (mFs ad iv), zI (G.2.2.1 0) (ad 0) 602 g, zI (G.2.2.1 0) (ad 4) 6 (upd er 1 (er 1 + 1))]) (st2 := [.int (-1000001)]) hz hA (zk_V hz (rm := (zRm 0 0 0 0)) (As := [.int (-1000001)]) (rest := []) 1 q2032 q2034 qs35 q95 q2035 (by decide +kernel) ⟨Nat.le_of_ble_eq_true rfl, Nat.le_of_ble_eq_true rfl⟩ ⟨Nat.le_of_ble_eq_true rfl, Nat.le_of_ble_eq_true rfl⟩ (zRecv (q := (RX10, TX10, 29)) hz (zAt.mt 0 0 rfl rfl) rfl) rfl rfl (Nat.le_of_ble_eq_true rfl) dX10_plan_45) (mM_finding ad iv er (-1000001) 1 (by decide) (by decide)) [0, 2] rfl (by decide) rfl rfl ?_
      exact z_iret hQ hz hr hlk dX10_plan_48 (by
        have e9 : sPlan g side fr to place = (1, 0, g) := by simp [sPlan, planF, inR, nI_clamp, c1, c2]
        rw [e9]; exact ⟨congrArg (fun z => some (Value.int z)) rE1, rfl⟩)
    · refine z_iload_n hz dX10_plan_20 3 rfl rfl ?_
      refine z_iload_n hz dX10_plan_21 2 rfl rfl ?_
      refine z_sipush hz 2399 dX10_plan_22 ks_2399 ?_
      refine z_callRD (st2 := [.int (zB (inR to fr 2399))]) hz zKp.mt (zk_S hz (rm := (zRm 0 0 0 0)) (As := [.int to, .int fr, .int 2399]) (rest := []) 3 q2023 q2024 q95 q2025 (by decide +kernel) ⟨Nat.le_of_ble_eq_true rfl, Nat.le_of_ble_eq_true rfl⟩ ⟨Nat.le_of_ble_eq_true rfl, Nat.le_of_ble_eq_true rfl⟩ rfl rfl (Nat.le_of_ble_eq_true rfl) dX10_plan_25) (mM_within to fr 2399) (fun _ _ _ => zP0) rfl ?_
      refine z_ifB_eq hz 42 dX10_plan_28 (by decide) (fun c3 => ?_) (fun c3 => ?_)
      · refine z_aload_n hz dX10_plan_42 0 rfl rfl ?_
        refine z_ldc hz q2031 dX10_plan_43 ?_
        refine z_callD (bs2 := [zO (ad 99) 10 (mFs ad iv), zI (G.2.2.1 0) (ad 0) 602 g, zI (G.2.2.1 0) (ad 4) 6 (upd er 1 (er 1 + 1))]) (st2 := [.int (-1000001)]) hz hA (zk_V hz (rm := (zRm 0 0 0 0)) (As := [.int (-1000001)]) (rest := []) 1 q2032 q2034 qs35 q95 q2035 (by decide +kernel) ⟨Nat.le_of_ble_eq_true rfl, Nat.le_of_ble_eq_true rfl⟩ ⟨Nat.le_of_ble_eq_true rfl, Nat.le_of_ble_eq_true rfl⟩ (zRecv (q := (RX10, TX10, 29)) hz (zAt.mt 0 0 rfl rfl) rfl) rfl rfl (Nat.le_of_ble_eq_true rfl) dX10_plan_45) (mM_finding ad iv er (-1000001) 1 (by decide) (by decide)) [0, 2] rfl (by decide) rfl rfl ?_
        exact z_iret hQ hz hr hlk dX10_plan_48 (by
          have e9 : sPlan g side fr to place = (1, 0, g) := by simp [sPlan, planF, inR, nI_clamp, c1, c2, c3]
          rw [e9]; exact ⟨congrArg (fun z => some (Value.int z)) rE1, rfl⟩)
      · refine z_iload hz dX10_plan_31 4 rfl ?_
        refine z_iconst hz 0 dX10_plan_33 ki_0 ?_
        refine z_bipush hz 8 dX10_plan_34 kb_8 ?_
        refine z_callRD (st2 := [.int (zB (inR place 0 8))]) hz zKp.mt (zk_S hz (rm := (zRm 0 0 0 0)) (As := [.int place, .int 0, .int 8]) (rest := []) 3 q2023 q2024 q95 q2025 (by decide +kernel) ⟨Nat.le_of_ble_eq_true rfl, Nat.le_of_ble_eq_true rfl⟩ ⟨Nat.le_of_ble_eq_true rfl, Nat.le_of_ble_eq_true rfl⟩ rfl rfl (Nat.le_of_ble_eq_true rfl) dX10_plan_36) (mM_within place 0 8) (fun _ _ _ => zP0) rfl ?_
        refine z_ifB_ne hz 49 dX10_plan_39 (by decide) (fun c4 => ?_) (fun c4 => ?_)
        · obtain ⟨j, j_lo, j_hi, rfl⟩ := inR_nat 0 1 kn_0 kn_1 (by decide) (by decide) c1
          have t_j : tN (nI j) = j := nI_clamp (by omega)
          obtain ⟨q, hq10, hq⟩ := hpl j (by omega)
          have tq : tN (nI q) = q := nI_clamp (by omega)
          refine z_aload_n hz dX10_plan_49 0 rfl rfl ?_
          refine z_get (C := RX10) (T := TX10) (N := 29) hz in_X10 (zAt.mt 0 0 rfl rfl) rfl 0 (by decide) q1929 (fun _ h9 => h9) rfl dX10_plan_50 ?_
          refine z_bipush hz 11 dX10_plan_53 kb_11 ?_
          refine z_iload_n hz dX10_plan_55 1 rfl rfl ?_
          refine z_iaddN hz kn_11 rfl dX10_plan_56 ?_
          refine z_iald hz (zAt.mt 1 0 rfl rfl) rfl (by omega) (by decide) dX10_plan_57 ?_
          refine z_top hq ?_
          refine z_istore (lv' := [(0, .ref (ad 99)), (1, .int (nI j)), (2, .int fr), (3, .int to), (4, .int place), (5, .int (nI q))]) hz [1, 2, 3, 4, 5, 0] dX10_plan_58 (by decide) rfl ?_
          refine z_iload hz dX10_plan_60 5 rfl ?_
          refine z_bipush hz 10 dX10_plan_62 kb_10 ?_
          refine z_icmpN_ne hz rfl kn_10 (by omega) (by decide) 74 dX10_plan_64 (by decide) (fun c5 => ?_) (fun c5 => ?_)
          · refine z_sipush hz 224 dX10_plan_74 ks_224 ?_
            refine z_iconst hz 3 dX10_plan_77 ki_3 ?_
            refine z_bipush hz 10 dX10_plan_78 kb_10 ?_
            refine z_iload_n hz dX10_plan_80 1 rfl rfl ?_
            refine z_imulN hz kn_10 rfl dX10_plan_81 ?_
            refine z_iload hz dX10_plan_82 5 rfl ?_
            refine z_iaddN hz rfl rfl dX10_plan_84 ?_
            refine z_imulN hz kn_3 rfl dX10_plan_85 ?_
            refine z_iaddN hz kn_224 rfl dX10_plan_86 ?_
            refine z_istore (lv' := [(0, .ref (ad 99)), (1, .int (nI j)), (2, .int fr), (3, .int to), (4, .int place), (5, .int (nI q)), (6, .int (nI (224 + (3 * ((10 * j) + q)))))]) hz [1, 2, 3, 4, 5, 6, 0] dX10_plan_87 (by decide) rfl ?_
            refine z_aload_n hz dX10_plan_89 0 rfl rfl ?_
            refine z_get (C := RX10) (T := TX10) (N := 29) hz in_X10 (zAt.mt 0 0 rfl rfl) rfl 0 (by decide) q1929 (fun _ h9 => h9) rfl dX10_plan_90 ?_
            refine z_iload hz dX10_plan_93 6 rfl ?_
            refine z_iload_n hz dX10_plan_95 2 rfl rfl ?_
            refine z_iast hz 1 0 rfl rfl rfl (by omega) (by decide) dX10_plan_96 ?_
            refine z_bs (bs2 := [zO (ad 99) 10 (mFs ad iv), zI (G.2.2.1 0) (ad 0) 602 (upd g (224 + (3 * ((10 * j) + q))) fr), zI (G.2.2.1 0) (ad 4) 6 er]) rfl ?_
            refine z_aload_n hz dX10_plan_97 0 rfl rfl ?_
            refine z_get (C := RX10) (T := TX10) (N := 29) hz in_X10 (zAt.mt 0 0 rfl rfl) rfl 0 (by decide) q1929 (fun _ h9 => h9) rfl dX10_plan_98 ?_
            refine z_iload hz dX10_plan_101 6 rfl ?_
            refine z_iconst hz 1 dX10_plan_103 ki_1 ?_
            refine z_iaddN hz rfl kn_1 dX10_plan_104 ?_
            refine z_iload_n hz dX10_plan_105 3 rfl rfl ?_
            refine z_iast hz 1 0 rfl rfl rfl (by omega) (by decide) dX10_plan_106 ?_
            refine z_bs (bs2 := [zO (ad 99) 10 (mFs ad iv), zI (G.2.2.1 0) (ad 0) 602 (upd (upd g (224 + (3 * ((10 * j) + q))) fr) ((224 + (3 * ((10 * j) + q))) + 1) to), zI (G.2.2.1 0) (ad 4) 6 er]) rfl ?_
            refine z_aload_n hz dX10_plan_107 0 rfl rfl ?_
            refine z_get (C := RX10) (T := TX10) (N := 29) hz in_X10 (zAt.mt 0 0 rfl rfl) rfl 0 (by decide) q1929 (fun _ h9 => h9) rfl dX10_plan_108 ?_
            refine z_iload hz dX10_plan_111 6 rfl ?_
            refine z_iconst hz 2 dX10_plan_113 ki_2 ?_
            refine z_iaddN hz rfl kn_2 dX10_plan_114 ?_
            refine z_iload hz dX10_plan_115 4 rfl ?_
            refine z_iast hz 1 0 rfl rfl rfl (by omega) (by decide) dX10_plan_117 ?_
            refine z_bs (bs2 := [zO (ad 99) 10 (mFs ad iv), zI (G.2.2.1 0) (ad 0) 602 (upd (upd (upd g (224 + (3 * ((10 * j) + q))) fr) ((224 + (3 * ((10 * j) + q))) + 1) to) ((224 + (3 * ((10 * j) + q))) + 2) place), zI (G.2.2.1 0) (ad 4) 6 er]) rfl ?_
            refine z_aload_n hz dX10_plan_118 0 rfl rfl ?_
            refine z_get (C := RX10) (T := TX10) (N := 29) hz in_X10 (zAt.mt 0 0 rfl rfl) rfl 0 (by decide) q1929 (fun _ h9 => h9) rfl dX10_plan_119 ?_
            refine z_bipush hz 11 dX10_plan_122 kb_11 ?_
            refine z_iload_n hz dX10_plan_124 1 rfl rfl ?_
            refine z_iaddN hz kn_11 rfl dX10_plan_125 ?_
            refine z_dup2 hz dX10_plan_126 rfl rfl ?_
            refine z_iald hz (zAt.mt 1 0 rfl rfl) rfl (by omega) (by decide) dX10_plan_127 ?_
            refine z_top (ld_ne (by omega) (ld_ne (by omega) (ld_ne (by omega) hq))) ?_
            refine z_iconst hz 1 dX10_plan_128 ki_1 ?_
            refine z_iaddN hz rfl kn_1 dX10_plan_129 ?_
            refine z_iast hz 1 0 rfl rfl rfl (by omega) (by decide) dX10_plan_130 ?_
            refine z_bs (bs2 := [zO (ad 99) 10 (mFs ad iv), zI (G.2.2.1 0) (ad 0) 602 (upd (upd (upd (upd g (224 + (3 * ((10 * j) + q))) fr) ((224 + (3 * ((10 * j) + q))) + 1) to) ((224 + (3 * ((10 * j) + q))) + 2) place) (11 + j) (nI (q + 1))), zI (G.2.2.1 0) (ad 4) 6 er]) rfl ?_
            refine z_aload_n hz dX10_plan_131 0 rfl rfl ?_
            refine z_get (C := RX10) (T := TX10) (N := 29) hz in_X10 (zAt.mt 0 0 rfl rfl) rfl 0 (by decide) q1929 (fun _ h9 => h9) rfl dX10_plan_132 ?_
            refine z_bipush hz 11 dX10_plan_135 kb_11 ?_
            refine z_iload_n hz dX10_plan_137 1 rfl rfl ?_
            refine z_iaddN hz kn_11 rfl dX10_plan_138 ?_
            refine z_iald hz (zAt.mt 1 0 rfl rfl) rfl (by omega) (by decide) dX10_plan_139 ?_
            refine z_top ld_self ?_
            exact z_iret hQ hz hr hlk dX10_plan_140 (by
              have e9 : sPlan g (nI j) fr to place = (0, nI (q + 1), upd (upd (upd (upd g (224 + (3 * ((10 * j) + q))) fr) ((224 + (3 * ((10 * j) + q))) + 1) to) ((224 + (3 * ((10 * j) + q))) + 2) place) (11 + j) (nI (q + 1))) := by simp [sPlan, planF, inR, nI_clamp, c1, c2, c3, c4, c5, t_j, hq, tq]
              rw [e9]; exact ⟨rfl, rfl⟩)
          · refine z_aload_n hz dX10_plan_67 0 rfl rfl ?_
            refine z_ldc hz q2044 dX10_plan_68 ?_
            refine z_callD (bs2 := [zO (ad 99) 10 (mFs ad iv), zI (G.2.2.1 0) (ad 0) 602 g, zI (G.2.2.1 0) (ad 4) 6 (upd er 4 (er 4 + 1))]) (st2 := [.int (-1000004)]) hz hA (zk_V hz (rm := (zRm 0 0 0 0)) (As := [.int (-1000004)]) (rest := []) 1 q2032 q2034 qs35 q95 q2035 (by decide +kernel) ⟨Nat.le_of_ble_eq_true rfl, Nat.le_of_ble_eq_true rfl⟩ ⟨Nat.le_of_ble_eq_true rfl, Nat.le_of_ble_eq_true rfl⟩ (zRecv (q := (RX10, TX10, 29)) hz (zAt.mt 0 0 rfl rfl) rfl) rfl rfl (Nat.le_of_ble_eq_true rfl) dX10_plan_70) (mM_finding ad iv er (-1000004) 4 (by decide) (by decide)) [0, 2] rfl (by decide) rfl rfl ?_
            exact z_iret hQ hz hr hlk dX10_plan_73 (by
              have e9 : sPlan g (nI j) fr to place = (4, 0, g) := by simp [sPlan, planF, inR, nI_clamp, c1, c2, c3, c4, c5, t_j, hq, tq]
              rw [e9]; exact ⟨congrArg (fun z => some (Value.int z)) rE4, rfl⟩)
        · refine z_aload_n hz dX10_plan_42 0 rfl rfl ?_
          refine z_ldc hz q2031 dX10_plan_43 ?_
          refine z_callD (bs2 := [zO (ad 99) 10 (mFs ad iv), zI (G.2.2.1 0) (ad 0) 602 g, zI (G.2.2.1 0) (ad 4) 6 (upd er 1 (er 1 + 1))]) (st2 := [.int (-1000001)]) hz hA (zk_V hz (rm := (zRm 0 0 0 0)) (As := [.int (-1000001)]) (rest := []) 1 q2032 q2034 qs35 q95 q2035 (by decide +kernel) ⟨Nat.le_of_ble_eq_true rfl, Nat.le_of_ble_eq_true rfl⟩ ⟨Nat.le_of_ble_eq_true rfl, Nat.le_of_ble_eq_true rfl⟩ (zRecv (q := (RX10, TX10, 29)) hz (zAt.mt 0 0 rfl rfl) rfl) rfl rfl (Nat.le_of_ble_eq_true rfl) dX10_plan_45) (mM_finding ad iv er (-1000001) 1 (by decide) (by decide)) [0, 2] rfl (by decide) rfl rfl ?_
          exact z_iret hQ hz hr hlk dX10_plan_48 (by
            have e9 : sPlan g side fr to place = (1, 0, g) := by simp [sPlan, planF, inR, nI_clamp, c1, c2, c3, c4]
            rw [e9]; exact ⟨congrArg (fun z => some (Value.int z)) rE1, rfl⟩)
set_option maxHeartbeats 400000 in
theorem mM_told {G : zG} (ad : Nat → Nat) (iv g er : Nat → Int32) (k : Int32) : zMet G yX10_told (ws_ yX10_told cX10_told 2 (some .int)) (zRm 2 0 0 60) [.ref (ad 99), .int k] [zO (ad 99) 10 (mFs ad iv), zI (G.2.2.1 0) (ad 0) 602 g, zI (G.2.2.1 0) (ad 4) 6 er] (fun v9 b9 => v9 = some (.int (rOf (sTold g er k))) ∧ b9 = [zO (ad 99) 10 (mFs ad iv), zI (G.2.2.1 0) (ad 0) 602 ((sTold g er k).2.2), zI (G.2.2.1 0) (ad 4) 6 (eOf er (sTold g er k))]) := by
  refine zMet.of (by decide +kernel) (Nat.le_of_ble_eq_true rfl) ?_
  intro p e s m args below meth c A hz hA hr hlk hnm9 Q hQ
  refine z_lv (lv' := [(0, .ref (ad 99)), (1, .int k)]) [0, 1] rfl ?_
  refine z_iload_n hz dX10_told_0 1 rfl rfl ?_
  refine z_iconst hz 1 dX10_told_1 ki_1 ?_
  refine z_iconst hz 5 dX10_told_2 ki_5 ?_
  refine z_callRD (st2 := [.int (zB (inR k 1 5))]) hz zKp.mt (zk_S hz (rm := (zRm 0 0 0 0)) (As := [.int k, .int 1, .int 5]) (rest := []) 3 q2023 q2024 q95 q2025 (by decide +kernel) ⟨Nat.le_of_ble_eq_true rfl, Nat.le_of_ble_eq_true rfl⟩ ⟨Nat.le_of_ble_eq_true rfl, Nat.le_of_ble_eq_true rfl⟩ rfl rfl (Nat.le_of_ble_eq_true rfl) dX10_told_3) (mM_within k 1 5) (fun _ _ _ => zP0) rfl ?_
  refine z_ifB_eq hz 18 dX10_told_6 (by decide) (fun c1 => ?_) (fun c1 => ?_)
  · refine z_aload_n hz dX10_told_18 0 rfl rfl ?_
    refine z_ldc hz q2031 dX10_told_19 ?_
    refine z_callD (bs2 := [zO (ad 99) 10 (mFs ad iv), zI (G.2.2.1 0) (ad 0) 602 g, zI (G.2.2.1 0) (ad 4) 6 (upd er 1 (er 1 + 1))]) (st2 := [.int (-1000001)]) hz hA (zk_V hz (rm := (zRm 0 0 0 0)) (As := [.int (-1000001)]) (rest := []) 1 q2032 q2034 qs35 q95 q2035 (by decide +kernel) ⟨Nat.le_of_ble_eq_true rfl, Nat.le_of_ble_eq_true rfl⟩ ⟨Nat.le_of_ble_eq_true rfl, Nat.le_of_ble_eq_true rfl⟩ (zRecv (q := (RX10, TX10, 29)) hz (zAt.mt 0 0 rfl rfl) rfl) rfl rfl (Nat.le_of_ble_eq_true rfl) dX10_told_21) (mM_finding ad iv er (-1000001) 1 (by decide) (by decide)) [0, 2] rfl (by decide) rfl rfl ?_
    exact z_iret hQ hz hr hlk dX10_told_24 (by
      have e9 : sTold g er k = (1, 0, g) := by simp [sTold, inR, nI_clamp, c1]
      rw [e9]; exact ⟨congrArg (fun z => some (Value.int z)) rE1, rfl⟩)
  · obtain ⟨j, j_lo, j_hi, rfl⟩ := inR_nat 1 5 kn_1 kn_5 (by decide) (by decide) c1
    have t_j : tN (nI j) = j := nI_clamp (by omega)
    refine z_aload_n hz dX10_told_9 0 rfl rfl ?_
    refine z_get (C := RX10) (T := TX10) (N := 29) hz in_X10 (zAt.mt 0 0 rfl rfl) rfl 4 (by decide) q1933 (fun _ h9 => h9) rfl dX10_told_10 ?_
    refine z_iload_n hz dX10_told_13 1 rfl rfl ?_
    refine z_iald hz (zAt.mt 2 0 rfl rfl) rfl (by omega) (by decide) dX10_told_14 ?_
    refine z_goto hz 24 dX10_told_15 (by decide) ?_
    exact z_iret hQ hz hr hlk dX10_told_24 (by
      have e9 : sTold g er (nI j) = (0, er j, g) := by simp [sTold, inR, nI_clamp, c1, t_j]
      rw [e9]; exact ⟨rfl, rfl⟩)
set_option maxHeartbeats 400000 in
theorem mM_count {G : zG} (ad : Nat → Nat) (iv g er : Nat → Int32) (what : Int32) : zMet G yX10_count (ws_ yX10_count cX10_count 2 (some .int)) (zRm 2 0 0 60) [.ref (ad 99), .int what] [zO (ad 99) 10 (mFs ad iv), zI (G.2.2.1 0) (ad 0) 602 g, zI (G.2.2.1 0) (ad 4) 6 er] (fun v9 b9 => v9 = some (.int (rOf (sCount g (iv 23) what))) ∧ b9 = [zO (ad 99) 10 (mFs ad iv), zI (G.2.2.1 0) (ad 0) 602 ((sCount g (iv 23) what).2.2), zI (G.2.2.1 0) (ad 4) 6 (eOf er (sCount g (iv 23) what))]) := by
  refine zMet.of (by decide +kernel) (Nat.le_of_ble_eq_true rfl) ?_
  intro p e s m args below meth c A hz hA hr hlk hnm9 Q hQ
  refine z_lv (lv' := [(0, .ref (ad 99)), (1, .int what)]) [0, 1] rfl ?_
  refine z_iload_n hz dX10_count_0 1 rfl rfl ?_
  refine z_iconst hz 0 dX10_count_1 ki_0 ?_
  refine z_bipush hz 9 dX10_count_2 kb_9 ?_
  refine z_callRD (st2 := [.int (zB (inR what 0 9))]) hz zKp.mt (zk_S hz (rm := (zRm 0 0 0 0)) (As := [.int what, .int 0, .int 9]) (rest := []) 3 q2023 q2024 q95 q2025 (by decide +kernel) ⟨Nat.le_of_ble_eq_true rfl, Nat.le_of_ble_eq_true rfl⟩ ⟨Nat.le_of_ble_eq_true rfl, Nat.le_of_ble_eq_true rfl⟩ rfl rfl (Nat.le_of_ble_eq_true rfl) dX10_count_4) (mM_within what 0 9) (fun _ _ _ => zP0) rfl ?_
  refine z_ifB_ne hz 17 dX10_count_7 (by decide) (fun c1 => ?_) (fun c1 => ?_)
  · obtain ⟨j, j_lo, j_hi, rfl⟩ := inR_nat 0 9 kn_0 kn_9 (by decide) (by decide) c1
    have t_j : tN (nI j) = j := nI_clamp (by omega)
    refine z_iload_n hz dX10_count_17 1 rfl rfl ?_
    refine z_bipush hz 8 dX10_count_18 kb_8 ?_
    refine z_icmpN_ge hz rfl kn_8 (by omega) (by decide) 32 dX10_count_20 (by decide) (fun c2 => ?_) (fun c2 => ?_)
    · refine z_iload_n hz dX10_count_32 1 rfl rfl ?_
      refine z_bipush hz 8 dX10_count_33 kb_8 ?_
      refine z_icmpN_ne hz rfl kn_8 (by omega) (by decide) 45 dX10_count_35 (by decide) (fun c3 => ?_) (fun c3 => ?_)
      · refine z_aload_n hz dX10_count_45 0 rfl rfl ?_
        refine z_get (C := RX10) (T := TX10) (N := 29) hz in_X10 (zAt.mt 0 0 rfl rfl) rfl 0 (by decide) q1929 (fun _ h9 => h9) rfl dX10_count_46 ?_
        refine z_bipush hz 8 dX10_count_49 kb_8 ?_
        refine z_iald hz (zAt.mt 1 0 rfl rfl) kn_8 (by decide) (by decide) dX10_count_51 ?_
        exact z_iret hQ hz hr hlk dX10_count_52 (by
          have e9 : sCount g (iv 23) (nI j) = (0, g 8, g) := by simp only [sCount]; rw [if_pos c1, t_j]; simp only [nIltc kn_8 (show j < 2 ^ 31 by omega) (by omega), nIeqc kn_8 (show j < 2 ^ 31 by omega) (by omega)]; simp [c2, c3]
          rw [e9]; exact ⟨rfl, rfl⟩)
      · refine z_aload_n hz dX10_count_38 0 rfl rfl ?_
        refine z_get (C := RX10) (T := TX10) (N := 29) hz in_X10 (zAt.mt 0 0 rfl rfl) rfl 23 (by decide) q1952 (fun _ h9 => h9) rfl dX10_count_39 ?_
        refine z_goto hz 52 dX10_count_42 (by decide) ?_
        exact z_iret hQ hz hr hlk dX10_count_52 (by
          have e9 : sCount g (iv 23) (nI j) = (0, iv 23, g) := by simp only [sCount]; rw [if_pos c1, t_j]; simp only [nIltc kn_8 (show j < 2 ^ 31 by omega) (by omega), nIeqc kn_8 (show j < 2 ^ 31 by omega) (by omega)]; simp [c2, c3]
          rw [e9]; exact ⟨rfl, rfl⟩)
    · refine z_aload_n hz dX10_count_23 0 rfl rfl ?_
      refine z_get (C := RX10) (T := TX10) (N := 29) hz in_X10 (zAt.mt 0 0 rfl rfl) rfl 0 (by decide) q1929 (fun _ h9 => h9) rfl dX10_count_24 ?_
      refine z_iload_n hz dX10_count_27 1 rfl rfl ?_
      refine z_iald hz (zAt.mt 1 0 rfl rfl) rfl (by omega) (by decide) dX10_count_28 ?_
      refine z_goto hz 52 dX10_count_29 (by decide) ?_
      exact z_iret hQ hz hr hlk dX10_count_52 (by
        have e9 : sCount g (iv 23) (nI j) = (0, g j, g) := by simp only [sCount]; rw [if_pos c1, t_j]; simp only [nIltc kn_8 (show j < 2 ^ 31 by omega) (by omega), nIeqc kn_8 (show j < 2 ^ 31 by omega) (by omega)]; simp [c2]
        rw [e9]; exact ⟨rfl, rfl⟩)
  · refine z_aload_n hz dX10_count_10 0 rfl rfl ?_
    refine z_ldc hz q2031 dX10_count_11 ?_
    refine z_callD (bs2 := [zO (ad 99) 10 (mFs ad iv), zI (G.2.2.1 0) (ad 0) 602 g, zI (G.2.2.1 0) (ad 4) 6 (upd er 1 (er 1 + 1))]) (st2 := [.int (-1000001)]) hz hA (zk_V hz (rm := (zRm 0 0 0 0)) (As := [.int (-1000001)]) (rest := []) 1 q2032 q2034 qs35 q95 q2035 (by decide +kernel) ⟨Nat.le_of_ble_eq_true rfl, Nat.le_of_ble_eq_true rfl⟩ ⟨Nat.le_of_ble_eq_true rfl, Nat.le_of_ble_eq_true rfl⟩ (zRecv (q := (RX10, TX10, 29)) hz (zAt.mt 0 0 rfl rfl) rfl) rfl rfl (Nat.le_of_ble_eq_true rfl) dX10_count_13) (mM_finding ad iv er (-1000001) 1 (by decide) (by decide)) [0, 2] rfl (by decide) rfl rfl ?_
    exact z_iret hQ hz hr hlk dX10_count_16 (by
      have e9 : sCount g (iv 23) what = (1, 0, g) := by simp [sCount, inR, nI_clamp, c1]
      rw [e9]; exact ⟨congrArg (fun z => some (Value.int z)) rE1, rfl⟩)
set_option maxHeartbeats 400000 in
theorem mM_above {G : zG} (k : Nat) (hk : k < 8) : zRd G yX10_above (ws_ yX10_above cX10_above 1 (some .int)) (zRm 0 0 0 0) [.int (nI k)] [] (fun v9 => v9 = some (.int (aboveI k))) := by
  refine zRd.of (by decide +kernel) (Nat.le_of_ble_eq_true rfl) ?_
  intro p e s m args below meth c hz hP hr hlk Q hQ
  refine z_lv (lv' := [(0, .int (nI k))]) [0] rfl ?_
  refine z_iload_n hz dX10_above_0 0 rfl rfl ?_
  refine z_ifN_ne hz rfl (by omega) 8 dX10_above_1 (by decide) (fun c1 => ?_) (fun c1 => ?_)
  · refine z_iload_n hz dX10_above_8 0 rfl rfl ?_
    refine z_iconst hz 3 dX10_above_9 ki_3 ?_
    refine z_icmpN_eq hz rfl kn_3 (by omega) (by decide) 19 dX10_above_10 (by decide) (fun c2 => ?_) (fun c2 => ?_)
    · refine z_iconst hz 1 dX10_above_19 ki_1 ?_
      refine z_goto hz 34 dX10_above_20 (by decide) ?_
      exact zr_iret hQ hz hr hlk dX10_above_34 (by simp [aboveI, c1, c2])
    · refine z_iload_n hz dX10_above_13 0 rfl rfl ?_
      refine z_bipush hz 6 dX10_above_14 kb_6 ?_
      refine z_icmpN_ne hz rfl kn_6 (by omega) (by decide) 23 dX10_above_16 (by decide) (fun c3 => ?_) (fun c3 => ?_)
      · refine z_iload_n hz dX10_above_23 0 rfl rfl ?_
        refine z_bipush hz 7 dX10_above_24 kb_7 ?_
        refine z_icmpN_ne hz rfl kn_7 (by omega) (by decide) 33 dX10_above_26 (by decide) (fun c4 => ?_) (fun c4 => ?_)
        · refine z_iconst hz 0 dX10_above_33 ki_0 ?_
          exact zr_iret hQ hz hr hlk dX10_above_34 (by simp [aboveI, c1, c2, c3, c4])
        · refine z_iconst hz 5 dX10_above_29 ki_5 ?_
          refine z_goto hz 34 dX10_above_30 (by decide) ?_
          exact zr_iret hQ hz hr hlk dX10_above_34 (by simp [aboveI, c1, c2, c3, c4])
      · refine z_iconst hz 1 dX10_above_19 ki_1 ?_
        refine z_goto hz 34 dX10_above_20 (by decide) ?_
        exact zr_iret hQ hz hr hlk dX10_above_34 (by simp [aboveI, c1, c2, c3])
  · refine z_iconst hz (-1) dX10_above_4 ki_m1 ?_
    refine z_goto hz 34 dX10_above_5 (by decide) ?_
    exact zr_iret hQ hz hr hlk dX10_above_34 (by simp [aboveI, c1])
