set_option maxRecDepth 100000
def ivK (iv iv9 : Nat → Int32) : Prop := iv9 3 = iv 3 ∧ iv9 23 = iv 23
set_option maxHeartbeats 2000000 in
theorem mM_lastOf {G : zG} (ad : Nat → Nat) (iv g : Nat → Int32) (W T : Nat → Int32) (wc S : Nat) (t : Int32) (h10 : wc ≤ 10) (hS : S < 1024) (hWn : ∀ j, j < wc → ∃ q, q < 16 ∧ W j = nI q) : zRd G yX10_lastOf (ws_ yX10_lastOf cX10_lastOf 8 (some .int)) (zRm 2 0 0 60) [.ref (ad 99), .int (nI S), .int t] [(ad 99, .inr (10, mFs ad (upd iv 14 (nI wc)))), (ad 0, .inl (G.2.2.1 0, 602, .inl g)), (ad 13, .inl (G.2.2.1 0, 10, .inl W)), (ad 15, .inl (G.2.2.1 0, 1024, .inl T))] (fun v9 => v9 = some (.int (loA g W T t S wc))) := by
  refine zRd.of (by decide +kernel) (Nat.le_of_ble_eq_true rfl) ?_
  intro p e s m args below meth c hz hP hr hlk Q hQ
  refine z_lv (lv' := [(0, .ref (ad 99)), (1, .int (nI S)), (2, .int t)]) [0, 1, 2] rfl ?_
  refine z_iconst hz 0 dX10_lastOf_0 ki_0 ?_
  refine z_istore_n (lv' := [(0, .ref (ad 99)), (1, .int (nI S)), (2, .int t), (3, .int 0)]) hz [1, 2, 3, 0] dX10_lastOf_1 rfl (by decide) rfl ?_
  refine z_iconst hz 0 dX10_lastOf_2 ki_0 ?_
  refine z_istore (lv' := [(0, .ref (ad 99)), (1, .int (nI S)), (2, .int t), (3, .int 0), (4, .int 0)]) hz [1, 2, 3, 4, 0] dX10_lastOf_3 (by decide) rfl ?_
  have lp_5 : ∀ (n9 : Nat) (a : Nat) (x : Int32), a ≤ wc → x = loA g W T t S a → wc - a < n9 → zW p G.1 e (zRm 2 0 0 60) s m args below meth c 8 Q 0 0 (zΨ s) 5 [(0, .ref (ad 99)), (1, .int (nI S)), (2, .int t), (3, .int x), (4, .int (nI a))] [] := by
    intro n9
    induction n9 with
    | zero => intro _ _ _ _ hm; exact absurd hm (Nat.not_lt_zero _)
    | succ n9 ih_5 =>
      intro a x ha hx hm_5
      refine z_iload hz dX10_lastOf_5 4 rfl ?_
      refine z_aload_n hz dX10_lastOf_7 0 rfl rfl ?_
      refine z_get (C := RX10) (T := TX10) (N := 29) hz in_X10 (zAt.rd hP 0 rfl) rfl 14 (by decide) q1943 (fun _ h9 => h9) rfl dX10_lastOf_8 ?_
      refine z_icmpN_ge hz rfl rfl (by omega) (by omega) 125 dX10_lastOf_11 (by decide) (fun c1 => ?_) (fun c1 => ?_)
      · refine z_iload_n hz dX10_lastOf_125 3 rfl rfl ?_
        exact zr_iret hQ hz hr hlk dX10_lastOf_126 (by rw [hx, show a = wc by omega])
      · refine z_iconst hz 0 dX10_lastOf_14 ki_0 ?_
        refine z_istore (lv' := [(0, .ref (ad 99)), (1, .int (nI S)), (2, .int t), (3, .int x), (4, .int (nI a)), (5, .int 0)]) hz [1, 2, 3, 4, 5, 0] dX10_lastOf_15 (by decide) rfl ?_
        have lp_17 : ∀ (n9 : Nat) (d : Nat) (y : Int32), d ≤ a + 1 → y = loB g W T t S a x d → a + 1 - d < n9 → zW p G.1 e (zRm 2 0 0 60) s m args below meth c 8 Q 0 0 (zΨ s) 17 [(0, .ref (ad 99)), (1, .int (nI S)), (2, .int t), (3, .int y), (4, .int (nI a)), (5, .int (nI d))] [] := by
          intro n9
          induction n9 with
          | zero => intro _ _ _ _ hm; exact absurd hm (Nat.not_lt_zero _)
          | succ n9 ih_17 =>
            intro d y hd hy hm_17
            refine z_iload hz dX10_lastOf_17 5 rfl ?_
            refine z_iload hz dX10_lastOf_19 4 rfl ?_
            refine z_icmpN_gt hz rfl rfl (by omega) (by omega) 119 dX10_lastOf_21 (by decide) (fun c2 => ?_) (fun c2 => ?_)
            · refine z_iinc (lv' := [(0, .ref (ad 99)), (1, .int (nI S)), (2, .int t), (3, .int y), (4, .int (nI (a + 1))), (5, .int (nI d))]) hz (nI (a + 1)) 4 [1, 2, 3, 4, 0, 5] dX10_lastOf_119 rfl (nI_1 _) (by decide) rfl ?_
              refine z_goto hz 5 dX10_lastOf_122 (by decide) ?_
              refine z_lv [0, 1, 2, 3, 4] rfl ?_
              exact ih_5 (a + 1) y (by omega) (by simp only [loA]; rw [← hx, hy, show d = a + 1 by omega]) (by omega)
            · refine z_iconst hz 1 dX10_lastOf_24 ki_1 ?_
              refine z_iload hz dX10_lastOf_25 4 rfl ?_
              refine z_ishl hz dX10_lastOf_27 ?_
              refine z_iconst hz 1 dX10_lastOf_28 ki_1 ?_
              refine z_iload hz dX10_lastOf_29 5 rfl ?_
              refine z_ishl hz dX10_lastOf_31 ?_
              refine z_ior hz dX10_lastOf_32 ?_
              refine z_istore (lv' := [(0, .ref (ad 99)), (1, .int (nI S)), (2, .int t), (3, .int y), (4, .int (nI a)), (5, .int (nI d)), (6, .int ((1 <<< ((nI a) &&& 31)) ||| (1 <<< ((nI d) &&& 31))))]) hz [1, 2, 3, 4, 5, 6, 0] dX10_lastOf_33 (by decide) rfl ?_
              refine z_iload_n hz dX10_lastOf_35 1 rfl rfl ?_
              refine z_iload hz dX10_lastOf_36 6 rfl ?_
              refine z_iand hz dX10_lastOf_38 ?_
              refine z_iload hz dX10_lastOf_39 6 rfl ?_
              refine z_icmp_ne hz 88 dX10_lastOf_41 (by decide) (fun c3 => ?_) (fun c3 => ?_)
              · refine z_iconst hz 0 dX10_lastOf_88 ki_0 ?_
                refine z_istore (lv' := [(0, .ref (ad 99)), (1, .int (nI S)), (2, .int t), (3, .int y), (4, .int (nI a)), (5, .int (nI d)), (6, .int ((1 <<< ((nI a) &&& 31)) ||| (1 <<< ((nI d) &&& 31)))), (7, .int 0)]) hz [1, 2, 3, 4, 5, 6, 7, 0] dX10_lastOf_89 (by decide) rfl ?_
                refine z_iload hz dX10_lastOf_91 7 rfl ?_
                refine z_if_eqT hz 111 dX10_lastOf_93 (by decide) (by decide) ?_
                refine z_iload_n hz dX10_lastOf_111 3 rfl rfl ?_
                refine z_istore_n (lv' := [(0, .ref (ad 99)), (1, .int (nI S)), (2, .int t), (3, .int y), (4, .int (nI a)), (5, .int (nI d)), (6, .int ((1 <<< ((nI a) &&& 31)) ||| (1 <<< ((nI d) &&& 31)))), (7, .int 0)]) hz [1, 2, 3, 0, 4, 5, 6, 7] dX10_lastOf_112 rfl (by decide) rfl ?_
                refine z_iinc (lv' := [(0, .ref (ad 99)), (1, .int (nI S)), (2, .int t), (3, .int y), (4, .int (nI a)), (5, .int (nI (d + 1))), (6, .int ((1 <<< ((nI a) &&& 31)) ||| (1 <<< ((nI d) &&& 31)))), (7, .int 0)]) hz (nI (d + 1)) 5 [1, 2, 3, 4, 5, 0, 6, 7] dX10_lastOf_113 rfl (nI_1 _) (by decide) rfl ?_
                refine z_goto hz 17 dX10_lastOf_116 (by decide) ?_
                refine z_lv [0, 1, 2, 3, 4, 5] rfl ?_
                exact ih_17 (d + 1) y (by omega) (by simp only [loB]; rw [← hy, if_neg (fun h9 => c3 h9.1.1)]) (by omega)
              · refine z_aload_n hz dX10_lastOf_44 0 rfl rfl ?_
                refine z_get (C := RX10) (T := TX10) (N := 29) hz in_X10 (zAt.rd hP 0 rfl) rfl 15 (by decide) q1944 (fun _ h9 => h9) rfl dX10_lastOf_45 ?_
                refine z_iload_n hz dX10_lastOf_48 1 rfl rfl ?_
                refine z_iload hz dX10_lastOf_49 6 rfl ?_
                refine z_iconst hz (-1) dX10_lastOf_51 ki_m1 ?_
                refine z_ixor hz dX10_lastOf_52 ?_
                refine z_iand hz dX10_lastOf_53 ?_
                refine z_top (and_nat (by omega) _).1 ?_
                refine z_iald hz (zAt.rd hP 3 rfl) rfl (Nat.lt_of_le_of_lt (and_nat (by omega) _).2 (by omega)) (by decide) dX10_lastOf_54 ?_
                refine z_aload_n hz dX10_lastOf_55 0 rfl rfl ?_
                refine z_get (C := RX10) (T := TX10) (N := 29) hz in_X10 (zAt.rd hP 0 rfl) rfl 15 (by decide) q1944 (fun _ h9 => h9) rfl dX10_lastOf_56 ?_
                refine z_iload_n hz dX10_lastOf_59 1 rfl rfl ?_
                refine z_iald hz (zAt.rd hP 3 rfl) rfl (by omega) (by decide) dX10_lastOf_60 ?_
                refine z_iconst hz 1 dX10_lastOf_61 ki_1 ?_
                refine z_isub hz dX10_lastOf_62 ?_
                refine z_icmp_ne hz 88 dX10_lastOf_63 (by decide) (fun c4 => ?_) (fun c4 => ?_)
                · refine z_iconst hz 0 dX10_lastOf_88 ki_0 ?_
                  refine z_istore (lv' := [(0, .ref (ad 99)), (1, .int (nI S)), (2, .int t), (3, .int y), (4, .int (nI a)), (5, .int (nI d)), (6, .int ((1 <<< ((nI a) &&& 31)) ||| (1 <<< ((nI d) &&& 31)))), (7, .int 0)]) hz [1, 2, 3, 4, 5, 6, 7, 0] dX10_lastOf_89 (by decide) rfl ?_
                  refine z_iload hz dX10_lastOf_91 7 rfl ?_
                  refine z_if_eqT hz 111 dX10_lastOf_93 (by decide) (by decide) ?_
                  refine z_iload_n hz dX10_lastOf_111 3 rfl rfl ?_
                  refine z_istore_n (lv' := [(0, .ref (ad 99)), (1, .int (nI S)), (2, .int t), (3, .int y), (4, .int (nI a)), (5, .int (nI d)), (6, .int ((1 <<< ((nI a) &&& 31)) ||| (1 <<< ((nI d) &&& 31)))), (7, .int 0)]) hz [1, 2, 3, 0, 4, 5, 6, 7] dX10_lastOf_112 rfl (by decide) rfl ?_
                  refine z_iinc (lv' := [(0, .ref (ad 99)), (1, .int (nI S)), (2, .int t), (3, .int y), (4, .int (nI a)), (5, .int (nI (d + 1))), (6, .int ((1 <<< ((nI a) &&& 31)) ||| (1 <<< ((nI d) &&& 31)))), (7, .int 0)]) hz (nI (d + 1)) 5 [1, 2, 3, 4, 5, 0, 6, 7] dX10_lastOf_113 rfl (nI_1 _) (by decide) rfl ?_
                  refine z_goto hz 17 dX10_lastOf_116 (by decide) ?_
                  refine z_lv [0, 1, 2, 3, 4, 5] rfl ?_
                  exact ih_17 (d + 1) y (by omega) (by simp only [loB]; rw [← hy, if_neg (fun h9 => c4 h9.1.2.1)]) (by omega)
                · obtain ⟨ma, hma1, hma⟩ := hWn a (by omega)
                  obtain ⟨mb, hmb1, hmb⟩ := hWn d (by omega)
                  refine z_aload_n hz dX10_lastOf_66 0 rfl rfl ?_
                  refine z_iload hz dX10_lastOf_67 4 rfl ?_
                  refine z_iload hz dX10_lastOf_69 5 rfl ?_
                  refine z_aload_n hz dX10_lastOf_71 0 rfl rfl ?_
                  refine z_get (C := RX10) (T := TX10) (N := 29) hz in_X10 (zAt.rd hP 0 rfl) rfl 15 (by decide) q1944 (fun _ h9 => h9) rfl dX10_lastOf_72 ?_
                  refine z_iload_n hz dX10_lastOf_75 1 rfl rfl ?_
                  refine z_iald hz (zAt.rd hP 3 rfl) rfl (by omega) (by decide) dX10_lastOf_76 ?_
                  refine z_iload_n hz dX10_lastOf_77 2 rfl rfl ?_
                  refine z_callRD (st2 := [.int (canP g W a d (T S) t)]) hz zKp.rd (zk_V hz (rm := (zRm 1 0 0 30)) (As := [.int (nI a), .int (nI d), .int (T S), .int t]) (rest := []) 4 q2275 q2277 qs63 q95 q2278 (by decide +kernel) ⟨Nat.le_of_ble_eq_true rfl, Nat.le_of_ble_eq_true rfl⟩ ⟨Nat.le_of_ble_eq_true rfl, Nat.le_of_ble_eq_true rfl⟩ (zRecv (q := (RX10, TX10, 29)) hz (zAt.rd hP 0 rfl) rfl) rfl rfl (Nat.le_of_ble_eq_true rfl) dX10_lastOf_78) (mM_canGo ad (upd iv 14 (nI wc)) g W a d ma mb (T S) t (by omega) (by omega) hma hmb (by omega) (by omega)) (fun H9 L9 h9 => (zPc (zAt.rd hP 0 rfl) h9 (zPc (zAt.rd hP 1 rfl) h9 (zPc (zAt.rd hP 2 rfl) h9 zP0)))) rfl ?_
                  refine z_if_eq hz 88 dX10_lastOf_81 (by decide) (fun c5 => ?_) (fun c5 => ?_)
                  · refine z_iconst hz 0 dX10_lastOf_88 ki_0 ?_
                    refine z_istore (lv' := [(0, .ref (ad 99)), (1, .int (nI S)), (2, .int t), (3, .int y), (4, .int (nI a)), (5, .int (nI d)), (6, .int ((1 <<< ((nI a) &&& 31)) ||| (1 <<< ((nI d) &&& 31)))), (7, .int 0)]) hz [1, 2, 3, 4, 5, 6, 7, 0] dX10_lastOf_89 (by decide) rfl ?_
                    refine z_iload hz dX10_lastOf_91 7 rfl ?_
                    refine z_if_eqT hz 111 dX10_lastOf_93 (by decide) (by decide) ?_
                    refine z_iload_n hz dX10_lastOf_111 3 rfl rfl ?_
                    refine z_istore_n (lv' := [(0, .ref (ad 99)), (1, .int (nI S)), (2, .int t), (3, .int y), (4, .int (nI a)), (5, .int (nI d)), (6, .int ((1 <<< ((nI a) &&& 31)) ||| (1 <<< ((nI d) &&& 31)))), (7, .int 0)]) hz [1, 2, 3, 0, 4, 5, 6, 7] dX10_lastOf_112 rfl (by decide) rfl ?_
                    refine z_iinc (lv' := [(0, .ref (ad 99)), (1, .int (nI S)), (2, .int t), (3, .int y), (4, .int (nI a)), (5, .int (nI (d + 1))), (6, .int ((1 <<< ((nI a) &&& 31)) ||| (1 <<< ((nI d) &&& 31)))), (7, .int 0)]) hz (nI (d + 1)) 5 [1, 2, 3, 4, 5, 0, 6, 7] dX10_lastOf_113 rfl (nI_1 _) (by decide) rfl ?_
                    refine z_goto hz 17 dX10_lastOf_116 (by decide) ?_
                    refine z_lv [0, 1, 2, 3, 4, 5] rfl ?_
                    exact ih_17 (d + 1) y (by omega) (by simp only [loB]; rw [← hy, if_neg (fun h9 => h9.1.2.2 c5)]) (by omega)
                  · refine z_iconst hz 1 dX10_lastOf_84 ki_1 ?_
                    refine z_goto hz 89 dX10_lastOf_85 (by decide) ?_
                    refine z_istore (lv' := [(0, .ref (ad 99)), (1, .int (nI S)), (2, .int t), (3, .int y), (4, .int (nI a)), (5, .int (nI d)), (6, .int ((1 <<< ((nI a) &&& 31)) ||| (1 <<< ((nI d) &&& 31)))), (7, .int 1)]) hz [1, 2, 3, 4, 5, 6, 7, 0] dX10_lastOf_89 (by decide) rfl ?_
                    refine z_iload hz dX10_lastOf_91 7 rfl ?_
                    refine z_if_eqF hz 111 dX10_lastOf_93 (by decide) (by decide) ?_
                    refine z_iload_n hz dX10_lastOf_96 3 rfl rfl ?_
                    refine z_if_eq hz 106 dX10_lastOf_97 (by decide) (fun c6 => ?_) (fun c6 => ?_)
                    · refine z_iload hz dX10_lastOf_106 6 rfl ?_
                      refine z_goto hz 112 dX10_lastOf_108 (by decide) ?_
                      refine z_istore_n (lv' := [(0, .ref (ad 99)), (1, .int (nI S)), (2, .int t), (3, .int ((1 <<< ((nI a) &&& 31)) ||| (1 <<< ((nI d) &&& 31)))), (4, .int (nI a)), (5, .int (nI d)), (6, .int ((1 <<< ((nI a) &&& 31)) ||| (1 <<< ((nI d) &&& 31)))), (7, .int 1)]) hz [1, 2, 3, 0, 4, 5, 6, 7] dX10_lastOf_112 rfl (by decide) rfl ?_
                      refine z_iinc (lv' := [(0, .ref (ad 99)), (1, .int (nI S)), (2, .int t), (3, .int ((1 <<< ((nI a) &&& 31)) ||| (1 <<< ((nI d) &&& 31)))), (4, .int (nI a)), (5, .int (nI (d + 1))), (6, .int ((1 <<< ((nI a) &&& 31)) ||| (1 <<< ((nI d) &&& 31)))), (7, .int 1)]) hz (nI (d + 1)) 5 [1, 2, 3, 4, 5, 0, 6, 7] dX10_lastOf_113 rfl (nI_1 _) (by decide) rfl ?_
                      refine z_goto hz 17 dX10_lastOf_116 (by decide) ?_
                      refine z_lv [0, 1, 2, 3, 4, 5] rfl ?_
                      exact ih_17 (d + 1) ((1 <<< ((nI a) &&& 31)) ||| (1 <<< ((nI d) &&& 31))) (by omega) (by simp only [loB]; rw [← hy, if_pos ⟨⟨c3, c4, c5⟩, Or.inl c6⟩]) (by omega)
                    · refine z_iload hz dX10_lastOf_100 6 rfl ?_
                      refine z_iload_n hz dX10_lastOf_102 3 rfl rfl ?_
                      refine z_icmp_ge hz 111 dX10_lastOf_103 (by decide) (fun c7 => ?_) (fun c7 => ?_)
                      · refine z_iload_n hz dX10_lastOf_111 3 rfl rfl ?_
                        refine z_istore_n (lv' := [(0, .ref (ad 99)), (1, .int (nI S)), (2, .int t), (3, .int y), (4, .int (nI a)), (5, .int (nI d)), (6, .int ((1 <<< ((nI a) &&& 31)) ||| (1 <<< ((nI d) &&& 31)))), (7, .int 1)]) hz [1, 2, 3, 0, 4, 5, 6, 7] dX10_lastOf_112 rfl (by decide) rfl ?_
                        refine z_iinc (lv' := [(0, .ref (ad 99)), (1, .int (nI S)), (2, .int t), (3, .int y), (4, .int (nI a)), (5, .int (nI (d + 1))), (6, .int ((1 <<< ((nI a) &&& 31)) ||| (1 <<< ((nI d) &&& 31)))), (7, .int 1)]) hz (nI (d + 1)) 5 [1, 2, 3, 4, 5, 0, 6, 7] dX10_lastOf_113 rfl (nI_1 _) (by decide) rfl ?_
                        refine z_goto hz 17 dX10_lastOf_116 (by decide) ?_
                        refine z_lv [0, 1, 2, 3, 4, 5] rfl ?_
                        exact ih_17 (d + 1) y (by omega) (by simp only [loB]; rw [← hy, if_neg (fun h9 => h9.2.elim c6 (Int32.not_lt.mpr c7))]) (by omega)
                      · refine z_iload hz dX10_lastOf_106 6 rfl ?_
                        refine z_goto hz 112 dX10_lastOf_108 (by decide) ?_
                        refine z_istore_n (lv' := [(0, .ref (ad 99)), (1, .int (nI S)), (2, .int t), (3, .int ((1 <<< ((nI a) &&& 31)) ||| (1 <<< ((nI d) &&& 31)))), (4, .int (nI a)), (5, .int (nI d)), (6, .int ((1 <<< ((nI a) &&& 31)) ||| (1 <<< ((nI d) &&& 31)))), (7, .int 1)]) hz [1, 2, 3, 0, 4, 5, 6, 7] dX10_lastOf_112 rfl (by decide) rfl ?_
                        refine z_iinc (lv' := [(0, .ref (ad 99)), (1, .int (nI S)), (2, .int t), (3, .int ((1 <<< ((nI a) &&& 31)) ||| (1 <<< ((nI d) &&& 31)))), (4, .int (nI a)), (5, .int (nI (d + 1))), (6, .int ((1 <<< ((nI a) &&& 31)) ||| (1 <<< ((nI d) &&& 31)))), (7, .int 1)]) hz (nI (d + 1)) 5 [1, 2, 3, 4, 5, 0, 6, 7] dX10_lastOf_113 rfl (nI_1 _) (by decide) rfl ?_
                        refine z_goto hz 17 dX10_lastOf_116 (by decide) ?_
                        refine z_lv [0, 1, 2, 3, 4, 5] rfl ?_
                        exact ih_17 (d + 1) ((1 <<< ((nI a) &&& 31)) ||| (1 <<< ((nI d) &&& 31))) (by omega) (by simp only [loB]; rw [← hy, if_pos ⟨⟨c3, c4, c5⟩, Or.inr (Int32.not_le.mp c7)⟩]) (by omega)
        exact lp_17 ((a + 1 - 0) + 1) 0 x (Nat.zero_le _) rfl (Nat.lt_succ_self _)
  exact lp_5 ((wc - 0) + 1) 0 0 (Nat.zero_le _) rfl (Nat.lt_succ_self _)
set_option maxHeartbeats 400000 in
theorem mM_isHatch {G : zG} (room t : Int32) : zRd G yX10_isHatch (ws_ yX10_isHatch cX10_isHatch 2 (some .boolean)) (zRm 2 0 0 60) [.int room, .int t] [] (fun v9 => v9 = some (.int (zB (isHatchP room t)))) := by
  refine zRd.of (by decide +kernel) (Nat.le_of_ble_eq_true rfl) ?_
  intro p e s m args below meth c hz hP hr hlk Q hQ
  refine z_lv (lv' := [(0, .int room), (1, .int t)]) [0, 1] rfl ?_
  refine z_iload_n hz dX10_isHatch_0 0 rfl rfl ?_
  refine z_callRD (st2 := [.int (zB (inR room 0 7))]) hz zKp.rd (zk_S hz (rm := (zRm 1 0 0 30)) (As := [.int room]) (rest := []) 1 q2041 q2042 q95 q2043 (by decide +kernel) ⟨Nat.le_of_ble_eq_true rfl, Nat.le_of_ble_eq_true rfl⟩ ⟨Nat.le_of_ble_eq_true rfl, Nat.le_of_ble_eq_true rfl⟩ rfl rfl (Nat.le_of_ble_eq_true rfl) dX10_isHatch_1) (mM_isRoom room) (fun _ _ _ => zP0) rfl ?_
  refine z_ifB_eq hz 22 dX10_isHatch_4 (by decide) (fun c1 => ?_) (fun c1 => ?_)
  · refine z_iconst hz 0 dX10_isHatch_22 ki_0 ?_
    exact zr_zret hQ hz hr hlk (by decide) dX10_isHatch_23 (by simp [zB, isHatchP, inR, c1])
  · refine z_iload_n hz dX10_isHatch_7 1 rfl rfl ?_
    refine z_iconst hz 1 dX10_isHatch_8 ki_1 ?_
    refine z_sipush hz 600 dX10_isHatch_9 ks_600 ?_
    refine z_callRD (st2 := [.int (zB (inR t 1 600))]) hz zKp.rd (zk_S hz (rm := (zRm 0 0 0 0)) (As := [.int t, .int 1, .int 600]) (rest := []) 3 q2023 q2024 q95 q2025 (by decide +kernel) ⟨Nat.le_of_ble_eq_true rfl, Nat.le_of_ble_eq_true rfl⟩ ⟨Nat.le_of_ble_eq_true rfl, Nat.le_of_ble_eq_true rfl⟩ rfl rfl (Nat.le_of_ble_eq_true rfl) dX10_isHatch_12) (mM_within t 1 600) (fun _ _ _ => zP0) rfl ?_
    refine z_ifB_eq hz 22 dX10_isHatch_15 (by decide) (fun c2 => ?_) (fun c2 => ?_)
    · refine z_iconst hz 0 dX10_isHatch_22 ki_0 ?_
      exact zr_zret hQ hz hr hlk (by decide) dX10_isHatch_23 (by simp [zB, isHatchP, inR, c1, c2])
    · refine z_iconst hz 1 dX10_isHatch_18 ki_1 ?_
      refine z_goto hz 23 dX10_isHatch_19 (by decide) ?_
      exact zr_zret hQ hz hr hlk (by decide) dX10_isHatch_23 (by simp [zB, isHatchP, inR, c1, c2])
set_option maxHeartbeats 1000000 in
theorem mM_most {G : zG} (ad : Nat → Nat) (iv g er : Nat → Int32) (wh tr : Nat → Int32) (room : Int32) (t : Int32) (what : Int32) (nm : Nat) (hnm : g 1 = nI nm) (h16 : nm ≤ 16) : zMet G yX10_most (ws_ yX10_most cX10_most 5 (some .int)) (zRm 3 0 0 110) [.ref (ad 99), .int room, .int t, .int what] [zO (ad 99) 10 (mFs ad iv), zI (G.2.2.1 0) (ad 0) 602 g, zI (G.2.2.1 0) (ad 4) 6 er, zI (G.2.2.1 0) (ad 13) 10 wh, zI (G.2.2.1 0) (ad 15) 1024 tr] (fun v9 b9 => v9 = some (.int (rOf (sMost g wh tr room t what))) ∧ ∃ iv9 wh9 tr9 : Nat → Int32, b9 = [zO (ad 99) 10 (mFs ad iv9), zI (G.2.2.1 0) (ad 0) 602 ((sMost g wh tr room t what).2.2), zI (G.2.2.1 0) (ad 4) 6 (eOf er (sMost g wh tr room t what)), zI (G.2.2.1 0) (ad 13) 10 wh9, zI (G.2.2.1 0) (ad 15) 1024 tr9] ∧ ivK iv iv9) := by
  refine zMet.of (by decide +kernel) (Nat.le_of_ble_eq_true rfl) ?_
  intro p e s m args below meth c A hz hA hr hlk hnm9 Q hQ
  refine z_lv (lv' := [(0, .ref (ad 99)), (1, .int room), (2, .int t), (3, .int what)]) [0, 1, 2, 3] rfl ?_
  have tnm : tN (nI nm) = nm := nI_clamp (by omega)
  refine z_iload_n hz dX10_most_0 1 rfl rfl ?_
  refine z_iload_n hz dX10_most_1 2 rfl rfl ?_
  refine z_callRD (st2 := [.int (zB (isHatchP room t))]) hz zKp.mt (zk_S hz (rm := (zRm 2 0 0 60)) (As := [.int room, .int t]) (rest := []) 2 q2260 q2261 q95 q2262 (by decide +kernel) ⟨Nat.le_of_ble_eq_true rfl, Nat.le_of_ble_eq_true rfl⟩ ⟨Nat.le_of_ble_eq_true rfl, Nat.le_of_ble_eq_true rfl⟩ rfl rfl (Nat.le_of_ble_eq_true rfl) dX10_most_2) (mM_isHatch room t) (fun _ _ _ => zP0) rfl ?_
  refine z_ifB_eq hz 17 dX10_most_5 (by decide) (fun c1 => ?_) (fun c1 => ?_)
  · refine z_aload_n hz dX10_most_17 0 rfl rfl ?_
    refine z_ldc hz q2031 dX10_most_18 ?_
    refine z_callD (bs2 := [zO (ad 99) 10 (mFs ad iv), zI (G.2.2.1 0) (ad 0) 602 g, zI (G.2.2.1 0) (ad 4) 6 (upd er 1 (er 1 + 1)), zI (G.2.2.1 0) (ad 13) 10 wh, zI (G.2.2.1 0) (ad 15) 1024 tr]) (st2 := [.int (-1000001)]) hz hA (zk_V hz (rm := (zRm 0 0 0 0)) (As := [.int (-1000001)]) (rest := []) 1 q2032 q2034 qs35 q95 q2035 (by decide +kernel) ⟨Nat.le_of_ble_eq_true rfl, Nat.le_of_ble_eq_true rfl⟩ ⟨Nat.le_of_ble_eq_true rfl, Nat.le_of_ble_eq_true rfl⟩ (zRecv (q := (RX10, TX10, 29)) hz (zAt.mt 0 0 rfl rfl) rfl) rfl rfl (Nat.le_of_ble_eq_true rfl) dX10_most_20) (mM_finding ad iv er (-1000001) 1 (by decide) (by decide)) [0, 2] rfl (by decide) rfl rfl ?_
    exact z_iret hQ hz hr hlk dX10_most_23 (by
      have e9 : sMost g wh tr room t what = (1, 0, g) := by simp [sMost, inR, nI_clamp, c1]
      rw [e9]; exact ⟨congrArg (fun z => some (Value.int z)) rE1, _, _, _, rfl, ⟨rfl, rfl⟩⟩)
  · refine z_iload_n hz dX10_most_8 3 rfl rfl ?_
    refine z_iconst hz 0 dX10_most_9 ki_0 ?_
    refine z_iconst hz 2 dX10_most_10 ki_2 ?_
    refine z_callRD (st2 := [.int (zB (inR what 0 2))]) hz zKp.mt (zk_S hz (rm := (zRm 0 0 0 0)) (As := [.int what, .int 0, .int 2]) (rest := []) 3 q2023 q2024 q95 q2025 (by decide +kernel) ⟨Nat.le_of_ble_eq_true rfl, Nat.le_of_ble_eq_true rfl⟩ ⟨Nat.le_of_ble_eq_true rfl, Nat.le_of_ble_eq_true rfl⟩ rfl rfl (Nat.le_of_ble_eq_true rfl) dX10_most_11) (mM_within what 0 2) (fun _ _ _ => zP0) rfl ?_
    refine z_ifB_ne hz 24 dX10_most_14 (by decide) (fun c2 => ?_) (fun c2 => ?_)
    · refine z_aload_n hz dX10_most_24 0 rfl rfl ?_
      refine z_iload_n hz dX10_most_25 1 rfl rfl ?_
      refine z_iload_n hz dX10_most_26 2 rfl rfl ?_
      refine z_callD (bs2 := [zO (ad 99) 10 (mFs ad (upd iv 14 (nI ((whoF g room wh nm).2)))), zI (G.2.2.1 0) (ad 0) 602 g, zI (G.2.2.1 0) (ad 4) 6 er, zI (G.2.2.1 0) (ad 13) 10 ((whoF g room wh nm).1), zI (G.2.2.1 0) (ad 15) 1024 (trS g (whoF g room wh nm).1 t (whoF g room wh nm).2 tr (2 ^ (whoF g room wh nm).2 - 1))]) (st2 := []) hz hA (zk_V hz (rm := (zRm 2 0 0 70)) (As := [.int room, .int t]) (rest := []) 2 q2263 q2265 qs61 q95 q2266 (by decide +kernel) ⟨Nat.le_of_ble_eq_true rfl, Nat.le_of_ble_eq_true rfl⟩ ⟨Nat.le_of_ble_eq_true rfl, Nat.le_of_ble_eq_true rfl⟩ (zRecv (q := (RX10, TX10, 29)) hz (zAt.mt 0 0 rfl rfl) rfl) rfl rfl (Nat.le_of_ble_eq_true rfl) dX10_most_27) (mM_findTurns ad iv g wh tr room t nm hnm h16) [0, 1, 3, 4] rfl (by decide) rfl rfl ?_
      have h10 := whoF_10 (g := g) (wh := wh) (room := room) nm
      have hWn : ∀ j, j < (whoF g room wh nm).2 → ∃ q, q < 16 ∧ (whoF g room wh nm).1 j = nI q := fun j hj => by obtain ⟨q, h1, h2⟩ := whoF_nat (g := g) (wh := wh) (room := room) nm j hj; exact ⟨q, by omega, h2⟩
      generalize hT : trS g (whoF g room wh nm).1 t (whoF g room wh nm).2 tr (2 ^ (whoF g room wh nm).2 - 1) = T at ⊢
      generalize hW : (whoF g room wh nm).1 = W at hWn hT ⊢
      generalize hC : (whoF g room wh nm).2 = wc at hWn h10 hT ⊢
      refine z_aload_n hz dX10_most_30 0 rfl rfl ?_
      refine z_callRD (st2 := [.int (nI (moF T (2 ^ wc - 1)))]) hz zKp.mt (zk_V hz (rm := (zRm 1 0 0 30)) (As := []) (rest := []) 0 q2279 q2281 qs64 q95 q2282 (by decide +kernel) ⟨Nat.le_of_ble_eq_true rfl, Nat.le_of_ble_eq_true rfl⟩ ⟨Nat.le_of_ble_eq_true rfl, Nat.le_of_ble_eq_true rfl⟩ (zRecv (q := (RX10, TX10, 29)) hz (zAt.mt 0 0 rfl rfl) rfl) rfl rfl (Nat.le_of_ble_eq_true rfl) dX10_most_31) (mM_mostOf ad iv T wc h10) (fun H9 L9 h9 => (zPc (zAt.mt 0 0 rfl rfl) h9 (zPc (zAt.mt 4 0 rfl rfl) h9 zP0))) rfl ?_
      have hmo := moF_le (T := T) (2 ^ wc - 1)
      have hp2 := pow_10 h10
      generalize hM : moF T (2 ^ wc - 1) = S at hmo ⊢
      generalize hP2 : 2 ^ wc = P2 at hmo hp2
      refine z_istore (lv' := [(0, .ref (ad 99)), (1, .int room), (2, .int t), (3, .int what), (4, .int (nI S))]) hz [1, 2, 3, 4, 0] dX10_most_34 (by decide) rfl ?_
      refine z_iload_n hz dX10_most_36 3 rfl rfl ?_
      refine z_if_ne hz 49 dX10_most_37 (by decide) (fun c3 => ?_) (fun c3 => ?_)
      · refine z_iload_n hz dX10_most_49 3 rfl rfl ?_
        refine z_iconst hz 1 dX10_most_50 ki_1 ?_
        refine z_icmp_ne hz 62 dX10_most_51 (by decide) (fun c4 => ?_) (fun c4 => ?_)
        · refine z_aload_n hz dX10_most_62 0 rfl rfl ?_
          refine z_get (C := RX10) (T := TX10) (N := 29) hz in_X10 (zAt.mt 0 0 rfl rfl) rfl 15 (by decide) q1944 (fun _ h9 => h9) rfl dX10_most_63 ?_
          refine z_iload hz dX10_most_66 4 rfl ?_
          refine z_iald hz (zAt.mt 4 0 rfl rfl) rfl (by omega) (by decide) dX10_most_68 ?_
          exact z_iret hQ hz hr hlk dX10_most_69 (by
            have e9 : sMost g wh tr room t what = (0, T S, g) := by simp only [sMost, whM, whT, whW, whC, hnm, tnm, hW, hC, hT, hM]; simp [c1, c2, c3, c4]
            rw [e9]; exact ⟨rfl, _, _, _, rfl, ⟨rfl, rfl⟩⟩)
        · refine z_iload hz dX10_most_54 4 rfl ?_
          refine z_callRD (st2 := [.int (bitsF (nI S) 16)]) hz zKp.mt (zk_S hz (rm := (zRm 0 0 0 0)) (As := [.int (nI S)]) (rest := []) 1 q2142 q2143 q95 q2144 (by decide +kernel) ⟨Nat.le_of_ble_eq_true rfl, Nat.le_of_ble_eq_true rfl⟩ ⟨Nat.le_of_ble_eq_true rfl, Nat.le_of_ble_eq_true rfl⟩ rfl rfl (Nat.le_of_ble_eq_true rfl) dX10_most_56) (mM_bits (nI S)) (fun _ _ _ => zP0) rfl ?_
          refine z_goto hz 69 dX10_most_59 (by decide) ?_
          exact z_iret hQ hz hr hlk dX10_most_69 (by
            have e9 : sMost g wh tr room t what = (0, bitsF (nI S) 16, g) := by simp only [sMost, whM, whT, whW, whC, hnm, tnm, hW, hC, hT, hM]; simp [c1, c2, c3, c4]
            rw [e9]; exact ⟨rfl, _, _, _, rfl, ⟨rfl, rfl⟩⟩)
      · refine z_aload_n hz dX10_most_40 0 rfl rfl ?_
        refine z_iload hz dX10_most_41 4 rfl ?_
        refine z_callRD (st2 := [.int (amF W (nI S) wc)]) hz zKp.mt (zk_V hz (rm := (zRm 1 0 0 30)) (As := [.int (nI S)]) (rest := []) 1 q2283 q2285 qs65 q95 q2286 (by decide +kernel) ⟨Nat.le_of_ble_eq_true rfl, Nat.le_of_ble_eq_true rfl⟩ ⟨Nat.le_of_ble_eq_true rfl, Nat.le_of_ble_eq_true rfl⟩ (zRecv (q := (RX10, TX10, 29)) hz (zAt.mt 0 0 rfl rfl) rfl) rfl rfl (Nat.le_of_ble_eq_true rfl) dX10_most_43) (mM_asMen ad iv W wc h10 (nI S)) (fun H9 L9 h9 => (zPc (zAt.mt 0 0 rfl rfl) h9 (zPc (zAt.mt 3 0 rfl rfl) h9 zP0))) rfl ?_
        refine z_goto hz 69 dX10_most_46 (by decide) ?_
        exact z_iret hQ hz hr hlk dX10_most_69 (by
          have e9 : sMost g wh tr room t what = (0, amF W (nI S) wc, g) := by simp only [sMost, whM, whT, whW, whC, hnm, tnm, hW, hC, hT, hM]; simp [c1, c2, c3]
          rw [e9]; exact ⟨rfl, _, _, _, rfl, ⟨rfl, rfl⟩⟩)
    · refine z_aload_n hz dX10_most_17 0 rfl rfl ?_
      refine z_ldc hz q2031 dX10_most_18 ?_
      refine z_callD (bs2 := [zO (ad 99) 10 (mFs ad iv), zI (G.2.2.1 0) (ad 0) 602 g, zI (G.2.2.1 0) (ad 4) 6 (upd er 1 (er 1 + 1)), zI (G.2.2.1 0) (ad 13) 10 wh, zI (G.2.2.1 0) (ad 15) 1024 tr]) (st2 := [.int (-1000001)]) hz hA (zk_V hz (rm := (zRm 0 0 0 0)) (As := [.int (-1000001)]) (rest := []) 1 q2032 q2034 qs35 q95 q2035 (by decide +kernel) ⟨Nat.le_of_ble_eq_true rfl, Nat.le_of_ble_eq_true rfl⟩ ⟨Nat.le_of_ble_eq_true rfl, Nat.le_of_ble_eq_true rfl⟩ (zRecv (q := (RX10, TX10, 29)) hz (zAt.mt 0 0 rfl rfl) rfl) rfl rfl (Nat.le_of_ble_eq_true rfl) dX10_most_20) (mM_finding ad iv er (-1000001) 1 (by decide) (by decide)) [0, 2] rfl (by decide) rfl rfl ?_
      exact z_iret hQ hz hr hlk dX10_most_23 (by
        have e9 : sMost g wh tr room t what = (1, 0, g) := by simp [sMost, inR, nI_clamp, c1, c2]
        rw [e9]; exact ⟨congrArg (fun z => some (Value.int z)) rE1, _, _, _, rfl, ⟨rfl, rfl⟩⟩)
set_option maxHeartbeats 1000000 in
theorem mM_row {G : zG} (ad : Nat → Nat) (iv g er : Nat → Int32) (wh tr : Nat → Int32) (room : Int32) (t : Int32) (ii : Int32) (nm : Nat) (hnm : g 1 = nI nm) (h16 : nm ≤ 16) (hrow : rowOk g (whW g wh room) (whT g wh tr room t) t (whC g wh room) (whM g wh tr room t)) : zMet G yX10_row (ws_ yX10_row cX10_row 6 (some .int)) (zRm 3 0 0 110) [.ref (ad 99), .int room, .int t, .int ii] [zO (ad 99) 10 (mFs ad iv), zI (G.2.2.1 0) (ad 0) 602 g, zI (G.2.2.1 0) (ad 4) 6 er, zI (G.2.2.1 0) (ad 13) 10 wh, zI (G.2.2.1 0) (ad 15) 1024 tr] (fun v9 b9 => v9 = some (.int (rOf (sRow g wh tr room t ii))) ∧ ∃ iv9 wh9 tr9 : Nat → Int32, b9 = [zO (ad 99) 10 (mFs ad iv9), zI (G.2.2.1 0) (ad 0) 602 ((sRow g wh tr room t ii).2.2), zI (G.2.2.1 0) (ad 4) 6 (eOf er (sRow g wh tr room t ii)), zI (G.2.2.1 0) (ad 13) 10 wh9, zI (G.2.2.1 0) (ad 15) 1024 tr9] ∧ ivK iv iv9) := by
  refine zMet.of (by decide +kernel) (Nat.le_of_ble_eq_true rfl) ?_
  intro p e s m args below meth c A hz hA hr hlk hnm9 Q hQ
  refine z_lv (lv' := [(0, .ref (ad 99)), (1, .int room), (2, .int t), (3, .int ii)]) [0, 1, 2, 3] rfl ?_
  have tnm : tN (nI nm) = nm := nI_clamp (by omega)
  refine z_iload_n hz dX10_row_0 1 rfl rfl ?_
  refine z_iload_n hz dX10_row_1 2 rfl rfl ?_
  refine z_callRD (st2 := [.int (zB (isHatchP room t))]) hz zKp.mt (zk_S hz (rm := (zRm 2 0 0 60)) (As := [.int room, .int t]) (rest := []) 2 q2260 q2261 q95 q2262 (by decide +kernel) ⟨Nat.le_of_ble_eq_true rfl, Nat.le_of_ble_eq_true rfl⟩ ⟨Nat.le_of_ble_eq_true rfl, Nat.le_of_ble_eq_true rfl⟩ rfl rfl (Nat.le_of_ble_eq_true rfl) dX10_row_2) (mM_isHatch room t) (fun _ _ _ => zP0) rfl ?_
  refine z_ifB_eq hz 12 dX10_row_5 (by decide) (fun c1 => ?_) (fun c1 => ?_)
  · refine z_aload_n hz dX10_row_12 0 rfl rfl ?_
    refine z_ldc hz q2031 dX10_row_13 ?_
    refine z_callD (bs2 := [zO (ad 99) 10 (mFs ad iv), zI (G.2.2.1 0) (ad 0) 602 g, zI (G.2.2.1 0) (ad 4) 6 (upd er 1 (er 1 + 1)), zI (G.2.2.1 0) (ad 13) 10 wh, zI (G.2.2.1 0) (ad 15) 1024 tr]) (st2 := [.int (-1000001)]) hz hA (zk_V hz (rm := (zRm 0 0 0 0)) (As := [.int (-1000001)]) (rest := []) 1 q2032 q2034 qs35 q95 q2035 (by decide +kernel) ⟨Nat.le_of_ble_eq_true rfl, Nat.le_of_ble_eq_true rfl⟩ ⟨Nat.le_of_ble_eq_true rfl, Nat.le_of_ble_eq_true rfl⟩ (zRecv (q := (RX10, TX10, 29)) hz (zAt.mt 0 0 rfl rfl) rfl) rfl rfl (Nat.le_of_ble_eq_true rfl) dX10_row_15) (mM_finding ad iv er (-1000001) 1 (by decide) (by decide)) [0, 2] rfl (by decide) rfl rfl ?_
    exact z_iret hQ hz hr hlk dX10_row_18 (by
      have e9 : sRow g wh tr room t ii = (1, 0, g) := by simp [sRow, c1]
      rw [e9]; exact ⟨congrArg (fun z => some (Value.int z)) rE1, _, _, _, rfl, ⟨rfl, rfl⟩⟩)
  · refine z_iload_n hz dX10_row_8 3 rfl rfl ?_
    refine z_if_ge hz 19 dX10_row_9 (by decide) (fun c2 => ?_) (fun c2 => ?_)
    · obtain ⟨i0, hi31, rfl⟩ := nI_of (Int32.not_lt.mpr c2)
      refine z_aload_n hz dX10_row_19 0 rfl rfl ?_
      refine z_iload_n hz dX10_row_20 1 rfl rfl ?_
      refine z_iload_n hz dX10_row_21 2 rfl rfl ?_
      refine z_callD (bs2 := [zO (ad 99) 10 (mFs ad (upd iv 14 (nI ((whoF g room wh nm).2)))), zI (G.2.2.1 0) (ad 0) 602 g, zI (G.2.2.1 0) (ad 4) 6 er, zI (G.2.2.1 0) (ad 13) 10 ((whoF g room wh nm).1), zI (G.2.2.1 0) (ad 15) 1024 (trS g (whoF g room wh nm).1 t (whoF g room wh nm).2 tr (2 ^ (whoF g room wh nm).2 - 1))]) (st2 := []) hz hA (zk_V hz (rm := (zRm 2 0 0 70)) (As := [.int room, .int t]) (rest := []) 2 q2263 q2265 qs61 q95 q2266 (by decide +kernel) ⟨Nat.le_of_ble_eq_true rfl, Nat.le_of_ble_eq_true rfl⟩ ⟨Nat.le_of_ble_eq_true rfl, Nat.le_of_ble_eq_true rfl⟩ (zRecv (q := (RX10, TX10, 29)) hz (zAt.mt 0 0 rfl rfl) rfl) rfl rfl (Nat.le_of_ble_eq_true rfl) dX10_row_22) (mM_findTurns ad iv g wh tr room t nm hnm h16) [0, 1, 3, 4] rfl (by decide) rfl rfl ?_
      have h10 := whoF_10 (g := g) (wh := wh) (room := room) nm
      have hWn : ∀ j, j < (whoF g room wh nm).2 → ∃ q, q < 16 ∧ (whoF g room wh nm).1 j = nI q := fun j hj => by obtain ⟨q, h1, h2⟩ := whoF_nat (g := g) (wh := wh) (room := room) nm j hj; exact ⟨q, by omega, h2⟩
      have hrk := hrow
      simp only [whM, whT, whW, whC, hnm, tnm] at hrk
      generalize hT : trS g (whoF g room wh nm).1 t (whoF g room wh nm).2 tr (2 ^ (whoF g room wh nm).2 - 1) = T at hrk ⊢
      generalize hW : (whoF g room wh nm).1 = W at hWn hT hrk ⊢
      generalize hC : (whoF g room wh nm).2 = wc at hWn h10 hT hrk ⊢
      refine z_aload_n hz dX10_row_25 0 rfl rfl ?_
      refine z_callRD (st2 := [.int (nI (moF T (2 ^ wc - 1)))]) hz zKp.mt (zk_V hz (rm := (zRm 1 0 0 30)) (As := []) (rest := []) 0 q2279 q2281 qs64 q95 q2282 (by decide +kernel) ⟨Nat.le_of_ble_eq_true rfl, Nat.le_of_ble_eq_true rfl⟩ ⟨Nat.le_of_ble_eq_true rfl, Nat.le_of_ble_eq_true rfl⟩ (zRecv (q := (RX10, TX10, 29)) hz (zAt.mt 0 0 rfl rfl) rfl) rfl rfl (Nat.le_of_ble_eq_true rfl) dX10_row_26) (mM_mostOf ad iv T wc h10) (fun H9 L9 h9 => (zPc (zAt.mt 0 0 rfl rfl) h9 (zPc (zAt.mt 4 0 rfl rfl) h9 zP0))) rfl ?_
      have hmo := moF_le (T := T) (2 ^ wc - 1)
      have hp2 := pow_10 h10
      generalize hM : moF T (2 ^ wc - 1) = S at hmo hrk ⊢
      generalize hP2 : 2 ^ wc = P2 at hmo hp2 hrk
      obtain ⟨⟨tau0, ht16, htau0⟩, hrk⟩ := hrk
      refine z_istore (lv' := [(0, .ref (ad 99)), (1, .int room), (2, .int t), (3, .int (nI i0)), (4, .int (nI S))]) hz [1, 2, 3, 4, 0] dX10_row_29 (by decide) rfl ?_
      refine z_iload_n hz dX10_row_31 3 rfl rfl ?_
      refine z_aload_n hz dX10_row_32 0 rfl rfl ?_
      refine z_get (C := RX10) (T := TX10) (N := 29) hz in_X10 (zAt.mt 0 0 rfl rfl) rfl 15 (by decide) q1944 (fun _ h9 => h9) rfl dX10_row_33 ?_
      refine z_iload hz dX10_row_36 4 rfl ?_
      refine z_iald hz (zAt.mt 4 0 rfl rfl) rfl (by omega) (by decide) dX10_row_38 ?_
      refine z_top htau0 ?_
      refine z_icmpN_lt hz rfl rfl (by omega) (by omega) 49 dX10_row_39 (by decide) (fun c3 => ?_) (fun c3 => ?_)
      · refine z_aload_n hz dX10_row_49 0 rfl rfl ?_
        refine z_iload hz dX10_row_50 4 rfl ?_
        refine z_iload_n hz dX10_row_52 2 rfl rfl ?_
        refine z_callRD (st2 := [.int (loA g W T t S wc)]) hz zKp.mt (zk_V hz (rm := (zRm 2 0 0 60)) (As := [.int (nI S), .int t]) (rest := []) 2 q2291 q2293 qs66 q95 q2294 (by decide +kernel) ⟨Nat.le_of_ble_eq_true rfl, Nat.le_of_ble_eq_true rfl⟩ ⟨Nat.le_of_ble_eq_true rfl, Nat.le_of_ble_eq_true rfl⟩ (zRecv (q := (RX10, TX10, 29)) hz (zAt.mt 0 0 rfl rfl) rfl) rfl rfl (Nat.le_of_ble_eq_true rfl) dX10_row_53) (mM_lastOf ad iv g W T wc S t h10 (by omega) hWn) (fun H9 L9 h9 => (zPc (zAt.mt 0 0 rfl rfl) h9 (zPc (zAt.mt 1 0 rfl rfl) h9 (zPc (zAt.mt 3 0 rfl rfl) h9 (zPc (zAt.mt 4 0 rfl rfl) h9 zP0))))) rfl ?_
        refine z_istore (lv' := [(0, .ref (ad 99)), (1, .int room), (2, .int t), (3, .int (nI i0)), (4, .int (nI S)), (5, .int (loA g W T t S wc))]) hz [1, 2, 3, 4, 5, 0] dX10_row_56 (by decide) rfl ?_
        have lp_58 : ∀ (n9 : Nat) (tau : Nat) (S2 : Nat) (f : Nat), tau ≤ f → f ≤ 16 → S2 < P2 → T S2 = nI tau → rowF g W T t wc (nI i0) 16 S = rowF g W T t wc (nI i0) f S2 → tau < n9 → zW p G.1 e (zRm 3 0 0 110) s m args below meth c 6 Q 0 0 (zΦ G A s [zO (ad 99) 10 (mFs ad (upd iv 14 (nI wc))), zI (G.2.2.1 0) (ad 0) 602 g, zI (G.2.2.1 0) (ad 4) 6 er, zI (G.2.2.1 0) (ad 13) 10 W, zI (G.2.2.1 0) (ad 15) 1024 T]) 58 [(0, .ref (ad 99)), (1, .int room), (2, .int t), (3, .int (nI i0)), (4, .int (nI S2)), (5, .int (loA g W T t S2 wc))] [] := by
          intro n9
          induction n9 with
          | zero => intro _ _ _ _ _ _ _ _ hm; exact absurd hm (Nat.not_lt_zero _)
          | succ n9 ih_58 =>
            intro tau S2 f htf hf16 hS2 htau hF hm_58
            refine z_aload_n hz dX10_row_58 0 rfl rfl ?_
            refine z_get (C := RX10) (T := TX10) (N := 29) hz in_X10 (zAt.mt 0 0 rfl rfl) rfl 15 (by decide) q1944 (fun _ h9 => h9) rfl dX10_row_59 ?_
            refine z_iload hz dX10_row_62 4 rfl ?_
            refine z_iald hz (zAt.mt 4 0 rfl rfl) rfl (by omega) (by decide) dX10_row_64 ?_
            refine z_top htau ?_
            refine z_iload_n hz dX10_row_65 3 rfl rfl ?_
            refine z_iconst hz 1 dX10_row_66 ki_1 ?_
            refine z_iaddN hz rfl kn_1 dX10_row_67 ?_
            refine z_icmpN_le hz rfl rfl (by omega) (by omega) 92 dX10_row_68 (by decide) (fun c4 => ?_) (fun c4 => ?_)
            · refine z_aload_n hz dX10_row_92 0 rfl rfl ?_
              refine z_iload hz dX10_row_93 5 rfl ?_
              refine z_callRD (st2 := [.int (amF W (loA g W T t S2 wc) wc)]) hz zKp.mt (zk_V hz (rm := (zRm 1 0 0 30)) (As := [.int (loA g W T t S2 wc)]) (rest := []) 1 q2283 q2285 qs65 q95 q2286 (by decide +kernel) ⟨Nat.le_of_ble_eq_true rfl, Nat.le_of_ble_eq_true rfl⟩ ⟨Nat.le_of_ble_eq_true rfl, Nat.le_of_ble_eq_true rfl⟩ (zRecv (q := (RX10, TX10, 29)) hz (zAt.mt 0 0 rfl rfl) rfl) rfl rfl (Nat.le_of_ble_eq_true rfl) dX10_row_95) (mM_asMen ad iv W wc h10 (loA g W T t S2 wc)) (fun H9 L9 h9 => (zPc (zAt.mt 0 0 rfl rfl) h9 (zPc (zAt.mt 3 0 rfl rfl) h9 zP0))) rfl ?_
              exact z_iret hQ hz hr hlk dX10_row_98 (by
                have e9 : sRow g wh tr room t (nI i0) = (0, amF W (loA g W T t S2 wc) wc, g) := by simp only [sRow, whM, whT, whW, whC, hnm, tnm, hW, hC, hT, hM]; rw [if_pos ⟨c1, Int32.not_lt.mp (Int32.not_lt.mpr c2)⟩, if_neg (by rw [htau0, nI_leI (by omega) (by omega)]; omega), hF, rowF_e (by rw [htau, nI_s1, nI_ltI (by omega) (by omega)]; omega)]
                rw [e9]; exact ⟨rfl, _, _, _, rfl, ⟨rfl, rfl⟩⟩)
            · refine z_iload hz dX10_row_71 4 rfl ?_
              refine z_iload hz dX10_row_73 5 rfl ?_
              refine z_iconst hz (-1) dX10_row_75 ki_m1 ?_
              refine z_ixor hz dX10_row_76 ?_
              refine z_iand hz dX10_row_77 ?_
              have hwo : nxS g W T t wc S2 < 1024 := Nat.lt_of_le_of_lt (and_nat (by omega) _).2 (by omega)
              refine z_top (and_nat (by omega) _).1 ?_
              refine z_istore (lv' := [(0, .ref (ad 99)), (1, .int room), (2, .int t), (3, .int (nI i0)), (4, .int (nI (nxS g W T t wc S2))), (5, .int (loA g W T t S2 wc))]) hz [1, 2, 3, 4, 0, 5] dX10_row_78 (by decide) rfl ?_
              refine z_aload_n hz dX10_row_80 0 rfl rfl ?_
              refine z_iload hz dX10_row_81 4 rfl ?_
              refine z_iload_n hz dX10_row_83 2 rfl rfl ?_
              refine z_callRD (st2 := [.int (loA g W T t (nxS g W T t wc S2) wc)]) hz zKp.mt (zk_V hz (rm := (zRm 2 0 0 60)) (As := [.int (nI (nxS g W T t wc S2)), .int t]) (rest := []) 2 q2291 q2293 qs66 q95 q2294 (by decide +kernel) ⟨Nat.le_of_ble_eq_true rfl, Nat.le_of_ble_eq_true rfl⟩ ⟨Nat.le_of_ble_eq_true rfl, Nat.le_of_ble_eq_true rfl⟩ (zRecv (q := (RX10, TX10, 29)) hz (zAt.mt 0 0 rfl rfl) rfl) rfl rfl (Nat.le_of_ble_eq_true rfl) dX10_row_84) (mM_lastOf ad iv g W T wc (nxS g W T t wc S2) t h10 (by omega) hWn) (fun H9 L9 h9 => (zPc (zAt.mt 0 0 rfl rfl) h9 (zPc (zAt.mt 1 0 rfl rfl) h9 (zPc (zAt.mt 3 0 rfl rfl) h9 (zPc (zAt.mt 4 0 rfl rfl) h9 zP0))))) rfl ?_
              refine z_istore (lv' := [(0, .ref (ad 99)), (1, .int room), (2, .int t), (3, .int (nI i0)), (4, .int (nI (nxS g W T t wc S2))), (5, .int (loA g W T t (nxS g W T t wc S2) wc))]) hz [1, 2, 3, 4, 5, 0] dX10_row_87 (by decide) rfl ?_
              refine z_goto hz 58 dX10_row_89 (by decide) ?_
              exact ih_58 (tau - 1) (nxS g W T t wc S2) (f - 1) (by omega) (by omega) (Nat.lt_of_le_of_lt (and_nat (by omega) _).2 hS2) (hrk S2 (tau - 1) (by omega) (by omega) (by rw [htau, show tau - 1 + 1 = tau by omega])) (by rw [hF, show f = f - 1 + 1 by omega]; exact rowF_s (by rw [htau, nI_s1, nI_ltI (by omega) (by omega)]; exact c4)) (by omega)
        exact lp_58 ((tau0) + 1) tau0 S 16 ht16 (Nat.le_refl _) (by omega) htau0 rfl (Nat.lt_succ_self _)
      · refine z_aload_n hz dX10_row_42 0 rfl rfl ?_
        refine z_ldc hz q2133 dX10_row_43 ?_
        refine z_callD (bs2 := [zO (ad 99) 10 (mFs ad (upd iv 14 (nI wc))), zI (G.2.2.1 0) (ad 0) 602 g, zI (G.2.2.1 0) (ad 4) 6 (upd er 2 (er 2 + 1)), zI (G.2.2.1 0) (ad 13) 10 W, zI (G.2.2.1 0) (ad 15) 1024 T]) (st2 := [.int (-1000002)]) hz hA (zk_V hz (rm := (zRm 0 0 0 0)) (As := [.int (-1000002)]) (rest := []) 1 q2032 q2034 qs35 q95 q2035 (by decide +kernel) ⟨Nat.le_of_ble_eq_true rfl, Nat.le_of_ble_eq_true rfl⟩ ⟨Nat.le_of_ble_eq_true rfl, Nat.le_of_ble_eq_true rfl⟩ (zRecv (q := (RX10, TX10, 29)) hz (zAt.mt 0 0 rfl rfl) rfl) rfl rfl (Nat.le_of_ble_eq_true rfl) dX10_row_45) (mM_finding ad (upd iv 14 (nI wc)) er (-1000002) 2 (by decide) (by decide)) [0, 2] rfl (by decide) rfl rfl ?_
        exact z_iret hQ hz hr hlk dX10_row_48 (by
          have e9 : sRow g wh tr room t (nI i0) = (2, 0, g) := by simp only [sRow, whM, whT, whW, whC, hnm, tnm, hW, hC, hT, hM]; rw [if_pos ⟨c1, Int32.not_lt.mp (Int32.not_lt.mpr c2)⟩, if_pos (by rw [htau0, nI_leI (by omega) (by omega)]; omega)]
          rw [e9]; exact ⟨congrArg (fun z => some (Value.int z)) rE2, _, _, _, rfl, ⟨rfl, rfl⟩⟩)
    · refine z_aload_n hz dX10_row_12 0 rfl rfl ?_
      refine z_ldc hz q2031 dX10_row_13 ?_
      refine z_callD (bs2 := [zO (ad 99) 10 (mFs ad iv), zI (G.2.2.1 0) (ad 0) 602 g, zI (G.2.2.1 0) (ad 4) 6 (upd er 1 (er 1 + 1)), zI (G.2.2.1 0) (ad 13) 10 wh, zI (G.2.2.1 0) (ad 15) 1024 tr]) (st2 := [.int (-1000001)]) hz hA (zk_V hz (rm := (zRm 0 0 0 0)) (As := [.int (-1000001)]) (rest := []) 1 q2032 q2034 qs35 q95 q2035 (by decide +kernel) ⟨Nat.le_of_ble_eq_true rfl, Nat.le_of_ble_eq_true rfl⟩ ⟨Nat.le_of_ble_eq_true rfl, Nat.le_of_ble_eq_true rfl⟩ (zRecv (q := (RX10, TX10, 29)) hz (zAt.mt 0 0 rfl rfl) rfl) rfl rfl (Nat.le_of_ble_eq_true rfl) dX10_row_15) (mM_finding ad iv er (-1000001) 1 (by decide) (by decide)) [0, 2] rfl (by decide) rfl rfl ?_
      exact z_iret hQ hz hr hlk dX10_row_18 (by
        have e9 : sRow g wh tr room t ii = (1, 0, g) := by simp [sRow, c1, Int32.not_le.mpr (Int32.not_le.mp c2)]
        rw [e9]; exact ⟨congrArg (fun z => some (Value.int z)) rE1, _, _, _, rfl, ⟨rfl, rfl⟩⟩)
set_option maxHeartbeats 2000000 in
theorem mM_goes {G : zG} (ad : Nat → Nat) (iv g er : Nat → Int32) (wh : Nat → Int32) (room : Int32) (t : Int32) (nm : Nat) (hnm : g 1 = nI nm) (h16 : nm ≤ 16) (nw : Nat) (hnw : g 7 = nI nw) (h20 : nw ≤ 20) : zMet G yX10_goes (ws_ yX10_goes cX10_goes 11 (some .int)) (zRm 3 0 0 110) [.ref (ad 99), .int room, .int t] [zO (ad 99) 10 (mFs ad iv), zI (G.2.2.1 0) (ad 0) 602 g, zI (G.2.2.1 0) (ad 4) 6 er, zI (G.2.2.1 0) (ad 13) 10 wh] (fun v9 b9 => v9 = some (.int (rOf (sGoes g wh room t))) ∧ ∃ iv9 wh9 : Nat → Int32, b9 = [zO (ad 99) 10 (mFs ad iv9), zI (G.2.2.1 0) (ad 0) 602 ((sGoes g wh room t).2.2), zI (G.2.2.1 0) (ad 4) 6 (eOf er (sGoes g wh room t)), zI (G.2.2.1 0) (ad 13) 10 wh9] ∧ ivK iv iv9) := by
  refine zMet.of (by decide +kernel) (Nat.le_of_ble_eq_true rfl) ?_
  intro p e s m args below meth c A hz hA hr hlk hnm9 Q hQ
  refine z_lv (lv' := [(0, .ref (ad 99)), (1, .int room), (2, .int t)]) [0, 1, 2] rfl ?_
  have tnm : tN (nI nm) = nm := nI_clamp (by omega)
  have tnw : tN (nI nw) = nw := nI_clamp (by omega)
  refine z_aload_n hz dX10_goes_0 0 rfl rfl ?_
  refine z_get (C := RX10) (T := TX10) (N := 29) hz in_X10 (zAt.mt 0 0 rfl rfl) rfl 0 (by decide) q1929 (fun _ h9 => h9) rfl dX10_goes_1 ?_
  refine z_bipush hz 7 dX10_goes_4 kb_7 ?_
  refine z_iald hz (zAt.mt 1 0 rfl rfl) kn_7 (by decide) (by decide) dX10_goes_6 ?_
  refine z_top hnw ?_
  refine z_istore_n (lv' := [(0, .ref (ad 99)), (1, .int room), (2, .int t), (3, .int (nI nw))]) hz [1, 2, 3, 0] dX10_goes_7 rfl (by decide) rfl ?_
  refine z_aload_n hz dX10_goes_8 0 rfl rfl ?_
  refine z_get (C := RX10) (T := TX10) (N := 29) hz in_X10 (zAt.mt 0 0 rfl rfl) rfl 0 (by decide) q1929 (fun _ h9 => h9) rfl dX10_goes_9 ?_
  refine z_bipush hz 7 dX10_goes_12 kb_7 ?_
  refine z_iconst hz 0 dX10_goes_14 ki_0 ?_
  refine z_iast hz 1 0 rfl rfl kn_7 (by decide) (by decide) dX10_goes_15 ?_
  refine z_bs (bs2 := [zO (ad 99) 10 (mFs ad iv), zI (G.2.2.1 0) (ad 0) 602 (upd g 7 0), zI (G.2.2.1 0) (ad 4) 6 er, zI (G.2.2.1 0) (ad 13) 10 wh]) rfl ?_
  generalize hh : upd g 7 0 = h
  have hn1 : h 1 = nI nm := by rw [← hh]; exact ld_ne (by decide) hnm
  refine z_iload_n hz dX10_goes_16 1 rfl rfl ?_
  refine z_iload_n hz dX10_goes_17 2 rfl rfl ?_
  refine z_callRD (st2 := [.int (zB (isHatchP room t))]) hz zKp.mt (zk_S hz (rm := (zRm 2 0 0 60)) (As := [.int room, .int t]) (rest := []) 2 q2260 q2261 q95 q2262 (by decide +kernel) ⟨Nat.le_of_ble_eq_true rfl, Nat.le_of_ble_eq_true rfl⟩ ⟨Nat.le_of_ble_eq_true rfl, Nat.le_of_ble_eq_true rfl⟩ rfl rfl (Nat.le_of_ble_eq_true rfl) dX10_goes_18) (mM_isHatch room t) (fun _ _ _ => zP0) rfl ?_
  refine z_ifB_ne hz 31 dX10_goes_21 (by decide) (fun c1 => ?_) (fun c1 => ?_)
  · refine z_aload_n hz dX10_goes_31 0 rfl rfl ?_
    refine z_iload_n hz dX10_goes_32 1 rfl rfl ?_
    refine z_callD (bs2 := [zO (ad 99) 10 (mFs ad (upd iv 14 (nI ((whoF h room wh nm).2)))), zI (G.2.2.1 0) (ad 0) 602 h, zI (G.2.2.1 0) (ad 4) 6 er, zI (G.2.2.1 0) (ad 13) 10 ((whoF h room wh nm).1)]) (st2 := []) hz hA (zk_V hz (rm := (zRm 1 0 0 30)) (As := [.int room]) (rest := []) 1 q2267 q2269 qs62 q95 q2270 (by decide +kernel) ⟨Nat.le_of_ble_eq_true rfl, Nat.le_of_ble_eq_true rfl⟩ ⟨Nat.le_of_ble_eq_true rfl, Nat.le_of_ble_eq_true rfl⟩ (zRecv (q := (RX10, TX10, 29)) hz (zAt.mt 0 0 rfl rfl) rfl) rfl rfl (Nat.le_of_ble_eq_true rfl) dX10_goes_33) (mM_findWho ad iv h wh room nm hn1 h16) [0, 1, 3] rfl (by decide) rfl rfl ?_
    have h10 := whoF_10 (g := h) (wh := wh) (room := room) nm
    have hWn := whoF_nat (g := h) (wh := wh) (room := room) nm
    generalize hW : (whoF h room wh nm).1 = W at hWn ⊢
    generalize hC : (whoF h room wh nm).2 = wc at hWn h10 ⊢
    obtain ⟨P2, hP2⟩ : ∃ q, q = 2 ^ wc := ⟨_, rfl⟩
    have hp2 := pow_10 h10
    rw [← hP2] at hp2
    refine z_aload_n hz dX10_goes_36 0 rfl rfl ?_
    refine z_iconst hz 1 dX10_goes_37 ki_1 ?_
    refine z_aload_n hz dX10_goes_38 0 rfl rfl ?_
    refine z_get (C := RX10) (T := TX10) (N := 29) hz in_X10 (zAt.mt 0 0 rfl rfl) rfl 14 (by decide) q1943 (fun _ h9 => h9) rfl dX10_goes_39 ?_
    refine z_ishl hz dX10_goes_42 ?_
    refine z_top (y := nI P2) ((bit_nat h10).trans (by rw [hP2])) ?_
    refine z_iconst hz 1 dX10_goes_43 ki_1 ?_
    refine z_isubN hz rfl kn_1 (by omega) dX10_goes_44 ?_
    refine z_callRD (st2 := [.int (amF W (nI (P2 - 1)) wc)]) hz zKp.mt (zk_V hz (rm := (zRm 1 0 0 30)) (As := [.int (nI (P2 - 1))]) (rest := []) 1 q2283 q2285 qs65 q95 q2286 (by decide +kernel) ⟨Nat.le_of_ble_eq_true rfl, Nat.le_of_ble_eq_true rfl⟩ ⟨Nat.le_of_ble_eq_true rfl, Nat.le_of_ble_eq_true rfl⟩ (zRecv (q := (RX10, TX10, 29)) hz (zAt.mt 0 0 rfl rfl) rfl) rfl rfl (Nat.le_of_ble_eq_true rfl) dX10_goes_45) (mM_asMen ad iv W wc h10 (nI (P2 - 1))) (fun H9 L9 h9 => (zPc (zAt.mt 0 0 rfl rfl) h9 (zPc (zAt.mt 3 0 rfl rfl) h9 zP0))) rfl ?_
    generalize hAll : amF W (nI (P2 - 1)) wc = all
    refine z_istore (lv' := [(0, .ref (ad 99)), (1, .int room), (2, .int t), (3, .int (nI nw)), (4, .int all)]) hz [1, 2, 3, 4, 0] dX10_goes_48 (by decide) rfl ?_
    refine z_iconst hz 0 dX10_goes_50 ki_0 ?_
    refine z_istore (lv' := [(0, .ref (ad 99)), (1, .int room), (2, .int t), (3, .int (nI nw)), (4, .int all), (5, .int 0)]) hz [1, 2, 3, 4, 5, 0] dX10_goes_51 (by decide) rfl ?_
    refine z_iconst hz 0 dX10_goes_53 ki_0 ?_
    refine z_istore (lv' := [(0, .ref (ad 99)), (1, .int room), (2, .int t), (3, .int (nI nw)), (4, .int all), (5, .int 0), (6, .int 0)]) hz [1, 2, 3, 4, 5, 6, 0] dX10_goes_54 (by decide) rfl ?_
    have lp_56 : ∀ (n9 : Nat) (k : Nat) (gone : Int32), k ≤ nw → goesR h nm all t nw 0 0 = goesR h nm all t (nw - k) k gone → nw - k < n9 → zW p G.1 e (zRm 3 0 0 110) s m args below meth c 11 Q 0 0 (zΦ G A s [zO (ad 99) 10 (mFs ad (upd iv 14 (nI wc))), zI (G.2.2.1 0) (ad 0) 602 h, zI (G.2.2.1 0) (ad 4) 6 er, zI (G.2.2.1 0) (ad 13) 10 W]) 56 [(0, .ref (ad 99)), (1, .int room), (2, .int t), (3, .int (nI nw)), (4, .int all), (5, .int gone), (6, .int (nI k))] [] := by
      intro n9
      induction n9 with
      | zero => intro _ _ _ _ hm; exact absurd hm (Nat.not_lt_zero _)
      | succ n9 ih_56 =>
        intro k gone hk hG hm_56
        refine z_iload hz dX10_goes_56 6 rfl ?_
        refine z_iload_n hz dX10_goes_58 3 rfl rfl ?_
        refine z_icmpN_ge hz rfl rfl (by omega) (by omega) 222 dX10_goes_59 (by decide) (fun c2 => ?_) (fun c2 => ?_)
        · refine z_iconst hz 0 dX10_goes_222 ki_0 ?_
          exact z_iret hQ hz hr hlk dX10_goes_223 (by
            have e9 : sGoes g wh room t = (0, 0, h) := by simp only [sGoes, whW, whC]; rw [hh, if_pos c1]; simp only [hn1, hnm, tnm, hnw, tnw, hW, hC, ← hP2, hAll]; rw [hG, show nw - k = 0 by omega]; rfl
            rw [e9]; exact ⟨rfl, _, _, rfl, ⟨rfl, rfl⟩⟩)
        · refine z_aload_n hz dX10_goes_62 0 rfl rfl ?_
          refine z_get (C := RX10) (T := TX10) (N := 29) hz in_X10 (zAt.mt 0 0 rfl rfl) rfl 0 (by decide) q1929 (fun _ h9 => h9) rfl dX10_goes_63 ?_
          refine z_sipush hz 374 dX10_goes_66 ks_374 ?_
          refine z_iload hz dX10_goes_69 6 rfl ?_
          refine z_iaddN hz kn_374 rfl dX10_goes_71 ?_
          refine z_iald hz (zAt.mt 1 0 rfl rfl) rfl (by omega) (by decide) dX10_goes_72 ?_
          refine z_istore (lv' := [(0, .ref (ad 99)), (1, .int room), (2, .int t), (3, .int (nI nw)), (4, .int all), (5, .int gone), (6, .int (nI k)), (7, .int (h (374 + k)))]) hz [1, 2, 3, 4, 5, 6, 7, 0] dX10_goes_73 (by decide) rfl ?_
          refine z_iload hz dX10_goes_75 7 rfl ?_
          refine z_if_le hz 111 dX10_goes_77 (by decide) (fun c3 => ?_) (fun c3 => ?_)
          · refine z_iconst hz 0 dX10_goes_111 ki_0 ?_
            refine z_istore (lv' := [(0, .ref (ad 99)), (1, .int room), (2, .int t), (3, .int (nI nw)), (4, .int all), (5, .int gone), (6, .int (nI k)), (7, .int (h (374 + k))), (8, .int 0)]) hz [1, 2, 3, 4, 5, 6, 7, 8, 0] dX10_goes_112 (by decide) rfl ?_
            refine z_iconst hz 0 dX10_goes_114 ki_0 ?_
            refine z_istore (lv' := [(0, .ref (ad 99)), (1, .int room), (2, .int t), (3, .int (nI nw)), (4, .int all), (5, .int gone), (6, .int (nI k)), (7, .int (h (374 + k))), (8, .int 0), (9, .int 0)]) hz [1, 2, 3, 4, 5, 6, 7, 8, 9, 0] dX10_goes_115 (by decide) rfl ?_
            refine z_iconst hz 0 dX10_goes_117 ki_0 ?_
            refine z_istore (lv' := [(0, .ref (ad 99)), (1, .int room), (2, .int t), (3, .int (nI nw)), (4, .int all), (5, .int gone), (6, .int (nI k)), (7, .int (h (374 + k))), (8, .int 0), (9, .int 0), (10, .int 0)]) hz [1, 2, 3, 4, 5, 6, 7, 8, 9, 10, 0] dX10_goes_118 (by decide) rfl ?_
            have lp_120 : ∀ (n9 : Nat) (q : Nat) (can : Int32) (kn : Int32), q ≤ nm → can = (gnF h (h (374 + k)) k t (gcF all (h (374 + k)) gone) q).1 → kn = (gnF h (h (374 + k)) k t (gcF all (h (374 + k)) gone) q).2 → nm - q < n9 → zW p G.1 e (zRm 3 0 0 110) s m args below meth c 11 Q 0 0 (zΦ G A s [zO (ad 99) 10 (mFs ad (upd iv 14 (nI wc))), zI (G.2.2.1 0) (ad 0) 602 h, zI (G.2.2.1 0) (ad 4) 6 er, zI (G.2.2.1 0) (ad 13) 10 W]) 120 [(0, .ref (ad 99)), (1, .int room), (2, .int t), (3, .int (nI nw)), (4, .int all), (5, .int gone), (6, .int (nI k)), (7, .int (h (374 + k))), (8, .int can), (9, .int kn), (10, .int (nI q))] [] := by
              intro n9
              induction n9 with
              | zero => intro _ _ _ _ _ _ hm; exact absurd hm (Nat.not_lt_zero _)
              | succ n9 ih_120 =>
                intro q can kn hq hc1 hc2 hm_120
                refine z_iload hz dX10_goes_120 10 rfl ?_
                refine z_aload_n hz dX10_goes_122 0 rfl rfl ?_
                refine z_get (C := RX10) (T := TX10) (N := 29) hz in_X10 (zAt.mt 0 0 rfl rfl) rfl 0 (by decide) q1929 (fun _ h9 => h9) rfl dX10_goes_123 ?_
                refine z_iconst hz 1 dX10_goes_126 ki_1 ?_
                refine z_iald hz (zAt.mt 1 0 rfl rfl) kn_1 (by decide) (by decide) dX10_goes_127 ?_
                refine z_top hn1 ?_
                refine z_icmpN_ge hz rfl rfl (by omega) (by omega) 194 dX10_goes_128 (by decide) (fun c4 => ?_) (fun c4 => ?_)
                · refine z_iload hz dX10_goes_194 8 rfl ?_
                  refine z_if_eq hz 204 dX10_goes_196 (by decide) (fun c5 => ?_) (fun c5 => ?_)
                  · refine z_iconst hz 1 dX10_goes_204 ki_1 ?_
                    refine z_iload hz dX10_goes_205 6 rfl ?_
                    refine z_iaddN hz kn_1 rfl dX10_goes_207 ?_
                    exact z_iret hQ hz hr hlk dX10_goes_208 (by
                      have e9 : sGoes g wh room t = (0, nI (1 + k), h) := by have z9 : goesR h nm all t (nw - k) k gone = nI (1 + k) := (by rw [show nw - k = (nw - (k + 1)) + 1 by omega]; simp only [goesR]; rw [show nm = q by omega, ← hc1, ← hc2, if_pos (Or.inl c5)]); simp only [sGoes, whW, whC]; rw [hh, if_pos c1]; simp only [hn1, hnm, tnm, hnw, tnw, hW, hC, ← hP2, hAll]; rw [hG, z9]
                      rw [e9]; exact ⟨rfl, _, _, rfl, ⟨rfl, rfl⟩⟩)
                  · refine z_iload hz dX10_goes_199 9 rfl ?_
                    refine z_if_ne hz 209 dX10_goes_201 (by decide) (fun c6 => ?_) (fun c6 => ?_)
                    · refine z_iload hz dX10_goes_209 5 rfl ?_
                      refine z_iload hz dX10_goes_211 7 rfl ?_
                      refine z_ior hz dX10_goes_213 ?_
                      refine z_istore (lv' := [(0, .ref (ad 99)), (1, .int room), (2, .int t), (3, .int (nI nw)), (4, .int all), (5, .int (gone ||| (h (374 + k)))), (6, .int (nI k)), (7, .int (h (374 + k))), (8, .int can), (9, .int kn), (10, .int (nI q))]) hz [1, 2, 3, 4, 5, 0, 6, 7, 8, 9, 10] dX10_goes_214 (by decide) rfl ?_
                      refine z_iinc (lv' := [(0, .ref (ad 99)), (1, .int room), (2, .int t), (3, .int (nI nw)), (4, .int all), (5, .int (gone ||| (h (374 + k)))), (6, .int (nI (k + 1))), (7, .int (h (374 + k))), (8, .int can), (9, .int kn), (10, .int (nI q))]) hz (nI (k + 1)) 6 [1, 2, 3, 4, 5, 6, 0, 7, 8, 9, 10] dX10_goes_216 rfl (nI_1 _) (by decide) rfl ?_
                      refine z_goto hz 56 dX10_goes_219 (by decide) ?_
                      refine z_lv [0, 1, 2, 3, 4, 5, 6] rfl ?_
                      exact ih_56 (k + 1) (gone ||| (h (374 + k))) (by omega) (by rw [hG, show nw - k = (nw - (k + 1)) + 1 by omega]; simp only [goesR]; rw [show nm = q by omega, ← hc1, ← hc2, if_neg (fun h9 => h9.elim c5 c6)]) (by omega)
                    · refine z_iconst hz 1 dX10_goes_204 ki_1 ?_
                      refine z_iload hz dX10_goes_205 6 rfl ?_
                      refine z_iaddN hz kn_1 rfl dX10_goes_207 ?_
                      exact z_iret hQ hz hr hlk dX10_goes_208 (by
                        have e9 : sGoes g wh room t = (0, nI (1 + k), h) := by have z9 : goesR h nm all t (nw - k) k gone = nI (1 + k) := (by rw [show nw - k = (nw - (k + 1)) + 1 by omega]; simp only [goesR]; rw [show nm = q by omega, ← hc1, ← hc2, if_pos (Or.inr c6)]); simp only [sGoes, whW, whC]; rw [hh, if_pos c1]; simp only [hn1, hnm, tnm, hnw, tnw, hW, hC, ← hP2, hAll]; rw [hG, z9]
                        rw [e9]; exact ⟨rfl, _, _, rfl, ⟨rfl, rfl⟩⟩)
                · refine z_iload hz dX10_goes_131 8 rfl ?_
                  refine z_if_eq hz 188 dX10_goes_133 (by decide) (fun c7 => ?_) (fun c7 => ?_)
                  · refine z_iinc (lv' := [(0, .ref (ad 99)), (1, .int room), (2, .int t), (3, .int (nI nw)), (4, .int all), (5, .int gone), (6, .int (nI k)), (7, .int (h (374 + k))), (8, .int can), (9, .int kn), (10, .int (nI (q + 1)))]) hz (nI (q + 1)) 10 [1, 2, 3, 4, 5, 6, 7, 8, 9, 10, 0] dX10_goes_188 rfl (nI_1 _) (by decide) rfl ?_
                    refine z_goto hz 120 dX10_goes_191 (by decide) ?_
                    exact ih_120 (q + 1) can kn (by omega) (by simp only [gnF]; rw [← hc1, if_neg (fun h9 => h9.1 c7), ← hc1]) (by simp only [gnF]; rw [← hc1, if_neg (fun h9 => h9.1 c7), ← hc2]) (by omega)
                  · refine z_iload hz dX10_goes_136 7 rfl ?_
                    refine z_iload hz dX10_goes_138 10 rfl ?_
                    refine z_callRD (st2 := [.int (zB (hasB (h (374 + k)) (nI q)))]) hz zKp.mt (zk_S hz (rm := (zRm 0 0 0 0)) (As := [.int (h (374 + k)), .int (nI q)]) (rest := []) 2 q2272 q2273 q95 q2274 (by decide +kernel) ⟨Nat.le_of_ble_eq_true rfl, Nat.le_of_ble_eq_true rfl⟩ ⟨Nat.le_of_ble_eq_true rfl, Nat.le_of_ble_eq_true rfl⟩ rfl rfl (Nat.le_of_ble_eq_true rfl) dX10_goes_140) (mM_has (h (374 + k)) (nI q)) (fun _ _ _ => zP0) rfl ?_
                    refine z_ifB_eq hz 188 dX10_goes_143 (by decide) (fun c8 => ?_) (fun c8 => ?_)
                    · refine z_iinc (lv' := [(0, .ref (ad 99)), (1, .int room), (2, .int t), (3, .int (nI nw)), (4, .int all), (5, .int gone), (6, .int (nI k)), (7, .int (h (374 + k))), (8, .int can), (9, .int kn), (10, .int (nI (q + 1)))]) hz (nI (q + 1)) 10 [1, 2, 3, 4, 5, 6, 7, 8, 9, 10, 0] dX10_goes_188 rfl (nI_1 _) (by decide) rfl ?_
                      refine z_goto hz 120 dX10_goes_191 (by decide) ?_
                      exact ih_120 (q + 1) can kn (by omega) (by simp only [gnF]; rw [← hc1, if_neg (fun h9 => c8 h9.2), ← hc1]) (by simp only [gnF]; rw [← hc1, if_neg (fun h9 => c8 h9.2), ← hc2]) (by omega)
                    · refine z_iload hz dX10_goes_146 9 rfl ?_
                      refine z_aload_n hz dX10_goes_148 0 rfl rfl ?_
                      refine z_iload hz dX10_goes_149 10 rfl ?_
                      refine z_iconst hz 3 dX10_goes_151 ki_3 ?_
                      refine z_callRD (st2 := [.int (h (36 + 5 * q + 3)), .int kn]) hz zKp.mt (zk_V hz (rm := (zRm 0 0 0 0)) (As := [.int (nI q), .int 3]) (rest := [.int kn]) 2 q2057 q2059 qs38 q95 q2060 (by decide +kernel) ⟨Nat.le_of_ble_eq_true rfl, Nat.le_of_ble_eq_true rfl⟩ ⟨Nat.le_of_ble_eq_true rfl, Nat.le_of_ble_eq_true rfl⟩ (zRecv (q := (RX10, TX10, 29)) hz (zAt.mt 0 0 rfl rfl) rfl) rfl rfl (Nat.le_of_ble_eq_true rfl) dX10_goes_152) (mM_man2 ad (upd iv 14 (nI wc)) h q 3 (by omega)) (fun H9 L9 h9 => (zPc (zAt.mt 0 0 rfl rfl) h9 (zPc (zAt.mt 1 0 rfl rfl) h9 zP0))) rfl ?_
                      refine z_iadd hz dX10_goes_155 ?_
                      refine z_istore (lv' := [(0, .ref (ad 99)), (1, .int room), (2, .int t), (3, .int (nI nw)), (4, .int all), (5, .int gone), (6, .int (nI k)), (7, .int (h (374 + k))), (8, .int can), (9, .int (kn + (h (36 + 5 * q + 3)))), (10, .int (nI q))]) hz [1, 2, 3, 4, 5, 6, 7, 8, 9, 0, 10] dX10_goes_156 (by decide) rfl ?_
                      refine z_aload_n hz dX10_goes_158 0 rfl rfl ?_
                      refine z_iload hz dX10_goes_159 10 rfl ?_
                      refine z_iconst hz 4 dX10_goes_161 ki_4 ?_
                      refine z_callRD (st2 := [.int (h (36 + 5 * q + 4))]) hz zKp.mt (zk_V hz (rm := (zRm 0 0 0 0)) (As := [.int (nI q), .int 4]) (rest := []) 2 q2057 q2059 qs38 q95 q2060 (by decide +kernel) ⟨Nat.le_of_ble_eq_true rfl, Nat.le_of_ble_eq_true rfl⟩ ⟨Nat.le_of_ble_eq_true rfl, Nat.le_of_ble_eq_true rfl⟩ (zRecv (q := (RX10, TX10, 29)) hz (zAt.mt 0 0 rfl rfl) rfl) rfl rfl (Nat.le_of_ble_eq_true rfl) dX10_goes_162) (mM_man2 ad (upd iv 14 (nI wc)) h q 4 (by omega)) (fun H9 L9 h9 => (zPc (zAt.mt 0 0 rfl rfl) h9 (zPc (zAt.mt 1 0 rfl rfl) h9 zP0))) rfl ?_
                      refine z_aload_n hz dX10_goes_165 0 rfl rfl ?_
                      refine z_get (C := RX10) (T := TX10) (N := 29) hz in_X10 (zAt.mt 0 0 rfl rfl) rfl 0 (by decide) q1929 (fun _ h9 => h9) rfl dX10_goes_166 ?_
                      refine z_iconst hz 0 dX10_goes_169 ki_0 ?_
                      refine z_iald hz (zAt.mt 1 0 rfl rfl) kn_0 (by decide) (by decide) dX10_goes_170 ?_
                      refine z_iload hz dX10_goes_171 6 rfl ?_
                      refine z_iconst hz 1 dX10_goes_173 ki_1 ?_
                      refine z_iaddN hz rfl kn_1 dX10_goes_174 ?_
                      refine z_iload_n hz dX10_goes_175 2 rfl rfl ?_
                      refine z_imul hz dX10_goes_176 ?_
                      refine z_iadd hz dX10_goes_177 ?_
                      refine z_icmp_lt hz 185 dX10_goes_178 (by decide) (fun c9 => ?_) (fun c9 => ?_)
                      · refine z_iconst hz 0 dX10_goes_185 ki_0 ?_
                        refine z_istore (lv' := [(0, .ref (ad 99)), (1, .int room), (2, .int t), (3, .int (nI nw)), (4, .int all), (5, .int gone), (6, .int (nI k)), (7, .int (h (374 + k))), (8, .int 0), (9, .int (kn + (h (36 + 5 * q + 3)))), (10, .int (nI q))]) hz [1, 2, 3, 4, 5, 6, 7, 8, 0, 9, 10] dX10_goes_186 (by decide) rfl ?_
                        refine z_iinc (lv' := [(0, .ref (ad 99)), (1, .int room), (2, .int t), (3, .int (nI nw)), (4, .int all), (5, .int gone), (6, .int (nI k)), (7, .int (h (374 + k))), (8, .int 0), (9, .int (kn + (h (36 + 5 * q + 3)))), (10, .int (nI (q + 1)))]) hz (nI (q + 1)) 10 [1, 2, 3, 4, 5, 6, 7, 8, 9, 10, 0] dX10_goes_188 rfl (nI_1 _) (by decide) rfl ?_
                        refine z_goto hz 120 dX10_goes_191 (by decide) ?_
                        exact ih_120 (q + 1) 0 (kn + (h (36 + 5 * q + 3))) (by omega) (by simp only [gnF]; rw [← hc1, ← hc2, if_pos ⟨c7, c8⟩]; simp only []; rw [if_neg (Int32.not_le.mpr c9)]) (by simp only [gnF]; rw [← hc1, ← hc2, if_pos ⟨c7, c8⟩]) (by omega)
                      · refine z_iconst hz 1 dX10_goes_181 ki_1 ?_
                        refine z_goto hz 186 dX10_goes_182 (by decide) ?_
                        refine z_istore (lv' := [(0, .ref (ad 99)), (1, .int room), (2, .int t), (3, .int (nI nw)), (4, .int all), (5, .int gone), (6, .int (nI k)), (7, .int (h (374 + k))), (8, .int 1), (9, .int (kn + (h (36 + 5 * q + 3)))), (10, .int (nI q))]) hz [1, 2, 3, 4, 5, 6, 7, 8, 0, 9, 10] dX10_goes_186 (by decide) rfl ?_
                        refine z_iinc (lv' := [(0, .ref (ad 99)), (1, .int room), (2, .int t), (3, .int (nI nw)), (4, .int all), (5, .int gone), (6, .int (nI k)), (7, .int (h (374 + k))), (8, .int 1), (9, .int (kn + (h (36 + 5 * q + 3)))), (10, .int (nI (q + 1)))]) hz (nI (q + 1)) 10 [1, 2, 3, 4, 5, 6, 7, 8, 9, 10, 0] dX10_goes_188 rfl (nI_1 _) (by decide) rfl ?_
                        refine z_goto hz 120 dX10_goes_191 (by decide) ?_
                        exact ih_120 (q + 1) 1 (kn + (h (36 + 5 * q + 3))) (by omega) (by simp only [gnF]; rw [← hc1, ← hc2, if_pos ⟨c7, c8⟩]; simp only []; rw [if_pos (Int32.not_lt.mp c9)]) (by simp only [gnF]; rw [← hc1, ← hc2, if_pos ⟨c7, c8⟩]) (by omega)
            exact lp_120 ((nm - 0) + 1) 0 0 0 (Nat.zero_le _) (by simp only [gnF, gcF]; rw [if_neg (fun h9 => Int32.not_le.mpr h9.1 c3)]) rfl (Nat.lt_succ_self _)
          · refine z_iload hz dX10_goes_80 7 rfl ?_
            refine z_iload hz dX10_goes_82 4 rfl ?_
            refine z_iconst hz (-1) dX10_goes_84 ki_m1 ?_
            refine z_ixor hz dX10_goes_85 ?_
            refine z_iand hz dX10_goes_86 ?_
            refine z_if_ne hz 111 dX10_goes_87 (by decide) (fun c10 => ?_) (fun c10 => ?_)
            · refine z_iconst hz 0 dX10_goes_111 ki_0 ?_
              refine z_istore (lv' := [(0, .ref (ad 99)), (1, .int room), (2, .int t), (3, .int (nI nw)), (4, .int all), (5, .int gone), (6, .int (nI k)), (7, .int (h (374 + k))), (8, .int 0)]) hz [1, 2, 3, 4, 5, 6, 7, 8, 0] dX10_goes_112 (by decide) rfl ?_
              refine z_iconst hz 0 dX10_goes_114 ki_0 ?_
              refine z_istore (lv' := [(0, .ref (ad 99)), (1, .int room), (2, .int t), (3, .int (nI nw)), (4, .int all), (5, .int gone), (6, .int (nI k)), (7, .int (h (374 + k))), (8, .int 0), (9, .int 0)]) hz [1, 2, 3, 4, 5, 6, 7, 8, 9, 0] dX10_goes_115 (by decide) rfl ?_
              refine z_iconst hz 0 dX10_goes_117 ki_0 ?_
              refine z_istore (lv' := [(0, .ref (ad 99)), (1, .int room), (2, .int t), (3, .int (nI nw)), (4, .int all), (5, .int gone), (6, .int (nI k)), (7, .int (h (374 + k))), (8, .int 0), (9, .int 0), (10, .int 0)]) hz [1, 2, 3, 4, 5, 6, 7, 8, 9, 10, 0] dX10_goes_118 (by decide) rfl ?_
              have lp_120 : ∀ (n9 : Nat) (q : Nat) (can : Int32) (kn : Int32), q ≤ nm → can = (gnF h (h (374 + k)) k t (gcF all (h (374 + k)) gone) q).1 → kn = (gnF h (h (374 + k)) k t (gcF all (h (374 + k)) gone) q).2 → nm - q < n9 → zW p G.1 e (zRm 3 0 0 110) s m args below meth c 11 Q 0 0 (zΦ G A s [zO (ad 99) 10 (mFs ad (upd iv 14 (nI wc))), zI (G.2.2.1 0) (ad 0) 602 h, zI (G.2.2.1 0) (ad 4) 6 er, zI (G.2.2.1 0) (ad 13) 10 W]) 120 [(0, .ref (ad 99)), (1, .int room), (2, .int t), (3, .int (nI nw)), (4, .int all), (5, .int gone), (6, .int (nI k)), (7, .int (h (374 + k))), (8, .int can), (9, .int kn), (10, .int (nI q))] [] := by
                intro n9
                induction n9 with
                | zero => intro _ _ _ _ _ _ hm; exact absurd hm (Nat.not_lt_zero _)
                | succ n9 ih_120 =>
                  intro q can kn hq hc1 hc2 hm_120
                  refine z_iload hz dX10_goes_120 10 rfl ?_
                  refine z_aload_n hz dX10_goes_122 0 rfl rfl ?_
                  refine z_get (C := RX10) (T := TX10) (N := 29) hz in_X10 (zAt.mt 0 0 rfl rfl) rfl 0 (by decide) q1929 (fun _ h9 => h9) rfl dX10_goes_123 ?_
                  refine z_iconst hz 1 dX10_goes_126 ki_1 ?_
                  refine z_iald hz (zAt.mt 1 0 rfl rfl) kn_1 (by decide) (by decide) dX10_goes_127 ?_
                  refine z_top hn1 ?_
                  refine z_icmpN_ge hz rfl rfl (by omega) (by omega) 194 dX10_goes_128 (by decide) (fun c11 => ?_) (fun c11 => ?_)
                  · refine z_iload hz dX10_goes_194 8 rfl ?_
                    refine z_if_eq hz 204 dX10_goes_196 (by decide) (fun c12 => ?_) (fun c12 => ?_)
                    · refine z_iconst hz 1 dX10_goes_204 ki_1 ?_
                      refine z_iload hz dX10_goes_205 6 rfl ?_
                      refine z_iaddN hz kn_1 rfl dX10_goes_207 ?_
                      exact z_iret hQ hz hr hlk dX10_goes_208 (by
                        have e9 : sGoes g wh room t = (0, nI (1 + k), h) := by have z9 : goesR h nm all t (nw - k) k gone = nI (1 + k) := (by rw [show nw - k = (nw - (k + 1)) + 1 by omega]; simp only [goesR]; rw [show nm = q by omega, ← hc1, ← hc2, if_pos (Or.inl c12)]); simp only [sGoes, whW, whC]; rw [hh, if_pos c1]; simp only [hn1, hnm, tnm, hnw, tnw, hW, hC, ← hP2, hAll]; rw [hG, z9]
                        rw [e9]; exact ⟨rfl, _, _, rfl, ⟨rfl, rfl⟩⟩)
                    · refine z_iload hz dX10_goes_199 9 rfl ?_
                      refine z_if_ne hz 209 dX10_goes_201 (by decide) (fun c13 => ?_) (fun c13 => ?_)
                      · refine z_iload hz dX10_goes_209 5 rfl ?_
                        refine z_iload hz dX10_goes_211 7 rfl ?_
                        refine z_ior hz dX10_goes_213 ?_
                        refine z_istore (lv' := [(0, .ref (ad 99)), (1, .int room), (2, .int t), (3, .int (nI nw)), (4, .int all), (5, .int (gone ||| (h (374 + k)))), (6, .int (nI k)), (7, .int (h (374 + k))), (8, .int can), (9, .int kn), (10, .int (nI q))]) hz [1, 2, 3, 4, 5, 0, 6, 7, 8, 9, 10] dX10_goes_214 (by decide) rfl ?_
                        refine z_iinc (lv' := [(0, .ref (ad 99)), (1, .int room), (2, .int t), (3, .int (nI nw)), (4, .int all), (5, .int (gone ||| (h (374 + k)))), (6, .int (nI (k + 1))), (7, .int (h (374 + k))), (8, .int can), (9, .int kn), (10, .int (nI q))]) hz (nI (k + 1)) 6 [1, 2, 3, 4, 5, 6, 0, 7, 8, 9, 10] dX10_goes_216 rfl (nI_1 _) (by decide) rfl ?_
                        refine z_goto hz 56 dX10_goes_219 (by decide) ?_
                        refine z_lv [0, 1, 2, 3, 4, 5, 6] rfl ?_
                        exact ih_56 (k + 1) (gone ||| (h (374 + k))) (by omega) (by rw [hG, show nw - k = (nw - (k + 1)) + 1 by omega]; simp only [goesR]; rw [show nm = q by omega, ← hc1, ← hc2, if_neg (fun h9 => h9.elim c12 c13)]) (by omega)
                      · refine z_iconst hz 1 dX10_goes_204 ki_1 ?_
                        refine z_iload hz dX10_goes_205 6 rfl ?_
                        refine z_iaddN hz kn_1 rfl dX10_goes_207 ?_
                        exact z_iret hQ hz hr hlk dX10_goes_208 (by
                          have e9 : sGoes g wh room t = (0, nI (1 + k), h) := by have z9 : goesR h nm all t (nw - k) k gone = nI (1 + k) := (by rw [show nw - k = (nw - (k + 1)) + 1 by omega]; simp only [goesR]; rw [show nm = q by omega, ← hc1, ← hc2, if_pos (Or.inr c13)]); simp only [sGoes, whW, whC]; rw [hh, if_pos c1]; simp only [hn1, hnm, tnm, hnw, tnw, hW, hC, ← hP2, hAll]; rw [hG, z9]
                          rw [e9]; exact ⟨rfl, _, _, rfl, ⟨rfl, rfl⟩⟩)
                  · refine z_iload hz dX10_goes_131 8 rfl ?_
                    refine z_if_eq hz 188 dX10_goes_133 (by decide) (fun c14 => ?_) (fun c14 => ?_)
                    · refine z_iinc (lv' := [(0, .ref (ad 99)), (1, .int room), (2, .int t), (3, .int (nI nw)), (4, .int all), (5, .int gone), (6, .int (nI k)), (7, .int (h (374 + k))), (8, .int can), (9, .int kn), (10, .int (nI (q + 1)))]) hz (nI (q + 1)) 10 [1, 2, 3, 4, 5, 6, 7, 8, 9, 10, 0] dX10_goes_188 rfl (nI_1 _) (by decide) rfl ?_
                      refine z_goto hz 120 dX10_goes_191 (by decide) ?_
                      exact ih_120 (q + 1) can kn (by omega) (by simp only [gnF]; rw [← hc1, if_neg (fun h9 => h9.1 c14), ← hc1]) (by simp only [gnF]; rw [← hc1, if_neg (fun h9 => h9.1 c14), ← hc2]) (by omega)
                    · refine z_iload hz dX10_goes_136 7 rfl ?_
                      refine z_iload hz dX10_goes_138 10 rfl ?_
                      refine z_callRD (st2 := [.int (zB (hasB (h (374 + k)) (nI q)))]) hz zKp.mt (zk_S hz (rm := (zRm 0 0 0 0)) (As := [.int (h (374 + k)), .int (nI q)]) (rest := []) 2 q2272 q2273 q95 q2274 (by decide +kernel) ⟨Nat.le_of_ble_eq_true rfl, Nat.le_of_ble_eq_true rfl⟩ ⟨Nat.le_of_ble_eq_true rfl, Nat.le_of_ble_eq_true rfl⟩ rfl rfl (Nat.le_of_ble_eq_true rfl) dX10_goes_140) (mM_has (h (374 + k)) (nI q)) (fun _ _ _ => zP0) rfl ?_
                      refine z_ifB_eq hz 188 dX10_goes_143 (by decide) (fun c15 => ?_) (fun c15 => ?_)
                      · refine z_iinc (lv' := [(0, .ref (ad 99)), (1, .int room), (2, .int t), (3, .int (nI nw)), (4, .int all), (5, .int gone), (6, .int (nI k)), (7, .int (h (374 + k))), (8, .int can), (9, .int kn), (10, .int (nI (q + 1)))]) hz (nI (q + 1)) 10 [1, 2, 3, 4, 5, 6, 7, 8, 9, 10, 0] dX10_goes_188 rfl (nI_1 _) (by decide) rfl ?_
                        refine z_goto hz 120 dX10_goes_191 (by decide) ?_
                        exact ih_120 (q + 1) can kn (by omega) (by simp only [gnF]; rw [← hc1, if_neg (fun h9 => c15 h9.2), ← hc1]) (by simp only [gnF]; rw [← hc1, if_neg (fun h9 => c15 h9.2), ← hc2]) (by omega)
                      · refine z_iload hz dX10_goes_146 9 rfl ?_
                        refine z_aload_n hz dX10_goes_148 0 rfl rfl ?_
                        refine z_iload hz dX10_goes_149 10 rfl ?_
                        refine z_iconst hz 3 dX10_goes_151 ki_3 ?_
                        refine z_callRD (st2 := [.int (h (36 + 5 * q + 3)), .int kn]) hz zKp.mt (zk_V hz (rm := (zRm 0 0 0 0)) (As := [.int (nI q), .int 3]) (rest := [.int kn]) 2 q2057 q2059 qs38 q95 q2060 (by decide +kernel) ⟨Nat.le_of_ble_eq_true rfl, Nat.le_of_ble_eq_true rfl⟩ ⟨Nat.le_of_ble_eq_true rfl, Nat.le_of_ble_eq_true rfl⟩ (zRecv (q := (RX10, TX10, 29)) hz (zAt.mt 0 0 rfl rfl) rfl) rfl rfl (Nat.le_of_ble_eq_true rfl) dX10_goes_152) (mM_man2 ad (upd iv 14 (nI wc)) h q 3 (by omega)) (fun H9 L9 h9 => (zPc (zAt.mt 0 0 rfl rfl) h9 (zPc (zAt.mt 1 0 rfl rfl) h9 zP0))) rfl ?_
                        refine z_iadd hz dX10_goes_155 ?_
                        refine z_istore (lv' := [(0, .ref (ad 99)), (1, .int room), (2, .int t), (3, .int (nI nw)), (4, .int all), (5, .int gone), (6, .int (nI k)), (7, .int (h (374 + k))), (8, .int can), (9, .int (kn + (h (36 + 5 * q + 3)))), (10, .int (nI q))]) hz [1, 2, 3, 4, 5, 6, 7, 8, 9, 0, 10] dX10_goes_156 (by decide) rfl ?_
                        refine z_aload_n hz dX10_goes_158 0 rfl rfl ?_
                        refine z_iload hz dX10_goes_159 10 rfl ?_
                        refine z_iconst hz 4 dX10_goes_161 ki_4 ?_
                        refine z_callRD (st2 := [.int (h (36 + 5 * q + 4))]) hz zKp.mt (zk_V hz (rm := (zRm 0 0 0 0)) (As := [.int (nI q), .int 4]) (rest := []) 2 q2057 q2059 qs38 q95 q2060 (by decide +kernel) ⟨Nat.le_of_ble_eq_true rfl, Nat.le_of_ble_eq_true rfl⟩ ⟨Nat.le_of_ble_eq_true rfl, Nat.le_of_ble_eq_true rfl⟩ (zRecv (q := (RX10, TX10, 29)) hz (zAt.mt 0 0 rfl rfl) rfl) rfl rfl (Nat.le_of_ble_eq_true rfl) dX10_goes_162) (mM_man2 ad (upd iv 14 (nI wc)) h q 4 (by omega)) (fun H9 L9 h9 => (zPc (zAt.mt 0 0 rfl rfl) h9 (zPc (zAt.mt 1 0 rfl rfl) h9 zP0))) rfl ?_
                        refine z_aload_n hz dX10_goes_165 0 rfl rfl ?_
                        refine z_get (C := RX10) (T := TX10) (N := 29) hz in_X10 (zAt.mt 0 0 rfl rfl) rfl 0 (by decide) q1929 (fun _ h9 => h9) rfl dX10_goes_166 ?_
                        refine z_iconst hz 0 dX10_goes_169 ki_0 ?_
                        refine z_iald hz (zAt.mt 1 0 rfl rfl) kn_0 (by decide) (by decide) dX10_goes_170 ?_
                        refine z_iload hz dX10_goes_171 6 rfl ?_
                        refine z_iconst hz 1 dX10_goes_173 ki_1 ?_
                        refine z_iaddN hz rfl kn_1 dX10_goes_174 ?_
                        refine z_iload_n hz dX10_goes_175 2 rfl rfl ?_
                        refine z_imul hz dX10_goes_176 ?_
                        refine z_iadd hz dX10_goes_177 ?_
                        refine z_icmp_lt hz 185 dX10_goes_178 (by decide) (fun c16 => ?_) (fun c16 => ?_)
                        · refine z_iconst hz 0 dX10_goes_185 ki_0 ?_
                          refine z_istore (lv' := [(0, .ref (ad 99)), (1, .int room), (2, .int t), (3, .int (nI nw)), (4, .int all), (5, .int gone), (6, .int (nI k)), (7, .int (h (374 + k))), (8, .int 0), (9, .int (kn + (h (36 + 5 * q + 3)))), (10, .int (nI q))]) hz [1, 2, 3, 4, 5, 6, 7, 8, 0, 9, 10] dX10_goes_186 (by decide) rfl ?_
                          refine z_iinc (lv' := [(0, .ref (ad 99)), (1, .int room), (2, .int t), (3, .int (nI nw)), (4, .int all), (5, .int gone), (6, .int (nI k)), (7, .int (h (374 + k))), (8, .int 0), (9, .int (kn + (h (36 + 5 * q + 3)))), (10, .int (nI (q + 1)))]) hz (nI (q + 1)) 10 [1, 2, 3, 4, 5, 6, 7, 8, 9, 10, 0] dX10_goes_188 rfl (nI_1 _) (by decide) rfl ?_
                          refine z_goto hz 120 dX10_goes_191 (by decide) ?_
                          exact ih_120 (q + 1) 0 (kn + (h (36 + 5 * q + 3))) (by omega) (by simp only [gnF]; rw [← hc1, ← hc2, if_pos ⟨c14, c15⟩]; simp only []; rw [if_neg (Int32.not_le.mpr c16)]) (by simp only [gnF]; rw [← hc1, ← hc2, if_pos ⟨c14, c15⟩]) (by omega)
                        · refine z_iconst hz 1 dX10_goes_181 ki_1 ?_
                          refine z_goto hz 186 dX10_goes_182 (by decide) ?_
                          refine z_istore (lv' := [(0, .ref (ad 99)), (1, .int room), (2, .int t), (3, .int (nI nw)), (4, .int all), (5, .int gone), (6, .int (nI k)), (7, .int (h (374 + k))), (8, .int 1), (9, .int (kn + (h (36 + 5 * q + 3)))), (10, .int (nI q))]) hz [1, 2, 3, 4, 5, 6, 7, 8, 0, 9, 10] dX10_goes_186 (by decide) rfl ?_
                          refine z_iinc (lv' := [(0, .ref (ad 99)), (1, .int room), (2, .int t), (3, .int (nI nw)), (4, .int all), (5, .int gone), (6, .int (nI k)), (7, .int (h (374 + k))), (8, .int 1), (9, .int (kn + (h (36 + 5 * q + 3)))), (10, .int (nI (q + 1)))]) hz (nI (q + 1)) 10 [1, 2, 3, 4, 5, 6, 7, 8, 9, 10, 0] dX10_goes_188 rfl (nI_1 _) (by decide) rfl ?_
                          refine z_goto hz 120 dX10_goes_191 (by decide) ?_
                          exact ih_120 (q + 1) 1 (kn + (h (36 + 5 * q + 3))) (by omega) (by simp only [gnF]; rw [← hc1, ← hc2, if_pos ⟨c14, c15⟩]; simp only []; rw [if_pos (Int32.not_lt.mp c16)]) (by simp only [gnF]; rw [← hc1, ← hc2, if_pos ⟨c14, c15⟩]) (by omega)
              exact lp_120 ((nm - 0) + 1) 0 0 0 (Nat.zero_le _) (by simp only [gnF, gcF]; rw [if_neg (fun h9 => c10 h9.2.1)]) rfl (Nat.lt_succ_self _)
            · refine z_iload hz dX10_goes_90 7 rfl ?_
              refine z_iload hz dX10_goes_92 5 rfl ?_
              refine z_iand hz dX10_goes_94 ?_
              refine z_if_ne hz 111 dX10_goes_95 (by decide) (fun c17 => ?_) (fun c17 => ?_)
              · refine z_iconst hz 0 dX10_goes_111 ki_0 ?_
                refine z_istore (lv' := [(0, .ref (ad 99)), (1, .int room), (2, .int t), (3, .int (nI nw)), (4, .int all), (5, .int gone), (6, .int (nI k)), (7, .int (h (374 + k))), (8, .int 0)]) hz [1, 2, 3, 4, 5, 6, 7, 8, 0] dX10_goes_112 (by decide) rfl ?_
                refine z_iconst hz 0 dX10_goes_114 ki_0 ?_
                refine z_istore (lv' := [(0, .ref (ad 99)), (1, .int room), (2, .int t), (3, .int (nI nw)), (4, .int all), (5, .int gone), (6, .int (nI k)), (7, .int (h (374 + k))), (8, .int 0), (9, .int 0)]) hz [1, 2, 3, 4, 5, 6, 7, 8, 9, 0] dX10_goes_115 (by decide) rfl ?_
                refine z_iconst hz 0 dX10_goes_117 ki_0 ?_
                refine z_istore (lv' := [(0, .ref (ad 99)), (1, .int room), (2, .int t), (3, .int (nI nw)), (4, .int all), (5, .int gone), (6, .int (nI k)), (7, .int (h (374 + k))), (8, .int 0), (9, .int 0), (10, .int 0)]) hz [1, 2, 3, 4, 5, 6, 7, 8, 9, 10, 0] dX10_goes_118 (by decide) rfl ?_
                have lp_120 : ∀ (n9 : Nat) (q : Nat) (can : Int32) (kn : Int32), q ≤ nm → can = (gnF h (h (374 + k)) k t (gcF all (h (374 + k)) gone) q).1 → kn = (gnF h (h (374 + k)) k t (gcF all (h (374 + k)) gone) q).2 → nm - q < n9 → zW p G.1 e (zRm 3 0 0 110) s m args below meth c 11 Q 0 0 (zΦ G A s [zO (ad 99) 10 (mFs ad (upd iv 14 (nI wc))), zI (G.2.2.1 0) (ad 0) 602 h, zI (G.2.2.1 0) (ad 4) 6 er, zI (G.2.2.1 0) (ad 13) 10 W]) 120 [(0, .ref (ad 99)), (1, .int room), (2, .int t), (3, .int (nI nw)), (4, .int all), (5, .int gone), (6, .int (nI k)), (7, .int (h (374 + k))), (8, .int can), (9, .int kn), (10, .int (nI q))] [] := by
                  intro n9
                  induction n9 with
                  | zero => intro _ _ _ _ _ _ hm; exact absurd hm (Nat.not_lt_zero _)
                  | succ n9 ih_120 =>
                    intro q can kn hq hc1 hc2 hm_120
                    refine z_iload hz dX10_goes_120 10 rfl ?_
                    refine z_aload_n hz dX10_goes_122 0 rfl rfl ?_
                    refine z_get (C := RX10) (T := TX10) (N := 29) hz in_X10 (zAt.mt 0 0 rfl rfl) rfl 0 (by decide) q1929 (fun _ h9 => h9) rfl dX10_goes_123 ?_
                    refine z_iconst hz 1 dX10_goes_126 ki_1 ?_
                    refine z_iald hz (zAt.mt 1 0 rfl rfl) kn_1 (by decide) (by decide) dX10_goes_127 ?_
                    refine z_top hn1 ?_
                    refine z_icmpN_ge hz rfl rfl (by omega) (by omega) 194 dX10_goes_128 (by decide) (fun c18 => ?_) (fun c18 => ?_)
                    · refine z_iload hz dX10_goes_194 8 rfl ?_
                      refine z_if_eq hz 204 dX10_goes_196 (by decide) (fun c19 => ?_) (fun c19 => ?_)
                      · refine z_iconst hz 1 dX10_goes_204 ki_1 ?_
                        refine z_iload hz dX10_goes_205 6 rfl ?_
                        refine z_iaddN hz kn_1 rfl dX10_goes_207 ?_
                        exact z_iret hQ hz hr hlk dX10_goes_208 (by
                          have e9 : sGoes g wh room t = (0, nI (1 + k), h) := by have z9 : goesR h nm all t (nw - k) k gone = nI (1 + k) := (by rw [show nw - k = (nw - (k + 1)) + 1 by omega]; simp only [goesR]; rw [show nm = q by omega, ← hc1, ← hc2, if_pos (Or.inl c19)]); simp only [sGoes, whW, whC]; rw [hh, if_pos c1]; simp only [hn1, hnm, tnm, hnw, tnw, hW, hC, ← hP2, hAll]; rw [hG, z9]
                          rw [e9]; exact ⟨rfl, _, _, rfl, ⟨rfl, rfl⟩⟩)
                      · refine z_iload hz dX10_goes_199 9 rfl ?_
                        refine z_if_ne hz 209 dX10_goes_201 (by decide) (fun c20 => ?_) (fun c20 => ?_)
                        · refine z_iload hz dX10_goes_209 5 rfl ?_
                          refine z_iload hz dX10_goes_211 7 rfl ?_
                          refine z_ior hz dX10_goes_213 ?_
                          refine z_istore (lv' := [(0, .ref (ad 99)), (1, .int room), (2, .int t), (3, .int (nI nw)), (4, .int all), (5, .int (gone ||| (h (374 + k)))), (6, .int (nI k)), (7, .int (h (374 + k))), (8, .int can), (9, .int kn), (10, .int (nI q))]) hz [1, 2, 3, 4, 5, 0, 6, 7, 8, 9, 10] dX10_goes_214 (by decide) rfl ?_
                          refine z_iinc (lv' := [(0, .ref (ad 99)), (1, .int room), (2, .int t), (3, .int (nI nw)), (4, .int all), (5, .int (gone ||| (h (374 + k)))), (6, .int (nI (k + 1))), (7, .int (h (374 + k))), (8, .int can), (9, .int kn), (10, .int (nI q))]) hz (nI (k + 1)) 6 [1, 2, 3, 4, 5, 6, 0, 7, 8, 9, 10] dX10_goes_216 rfl (nI_1 _) (by decide) rfl ?_
                          refine z_goto hz 56 dX10_goes_219 (by decide) ?_
                          refine z_lv [0, 1, 2, 3, 4, 5, 6] rfl ?_
                          exact ih_56 (k + 1) (gone ||| (h (374 + k))) (by omega) (by rw [hG, show nw - k = (nw - (k + 1)) + 1 by omega]; simp only [goesR]; rw [show nm = q by omega, ← hc1, ← hc2, if_neg (fun h9 => h9.elim c19 c20)]) (by omega)
                        · refine z_iconst hz 1 dX10_goes_204 ki_1 ?_
                          refine z_iload hz dX10_goes_205 6 rfl ?_
                          refine z_iaddN hz kn_1 rfl dX10_goes_207 ?_
                          exact z_iret hQ hz hr hlk dX10_goes_208 (by
                            have e9 : sGoes g wh room t = (0, nI (1 + k), h) := by have z9 : goesR h nm all t (nw - k) k gone = nI (1 + k) := (by rw [show nw - k = (nw - (k + 1)) + 1 by omega]; simp only [goesR]; rw [show nm = q by omega, ← hc1, ← hc2, if_pos (Or.inr c20)]); simp only [sGoes, whW, whC]; rw [hh, if_pos c1]; simp only [hn1, hnm, tnm, hnw, tnw, hW, hC, ← hP2, hAll]; rw [hG, z9]
                            rw [e9]; exact ⟨rfl, _, _, rfl, ⟨rfl, rfl⟩⟩)
                    · refine z_iload hz dX10_goes_131 8 rfl ?_
                      refine z_if_eq hz 188 dX10_goes_133 (by decide) (fun c21 => ?_) (fun c21 => ?_)
                      · refine z_iinc (lv' := [(0, .ref (ad 99)), (1, .int room), (2, .int t), (3, .int (nI nw)), (4, .int all), (5, .int gone), (6, .int (nI k)), (7, .int (h (374 + k))), (8, .int can), (9, .int kn), (10, .int (nI (q + 1)))]) hz (nI (q + 1)) 10 [1, 2, 3, 4, 5, 6, 7, 8, 9, 10, 0] dX10_goes_188 rfl (nI_1 _) (by decide) rfl ?_
                        refine z_goto hz 120 dX10_goes_191 (by decide) ?_
                        exact ih_120 (q + 1) can kn (by omega) (by simp only [gnF]; rw [← hc1, if_neg (fun h9 => h9.1 c21), ← hc1]) (by simp only [gnF]; rw [← hc1, if_neg (fun h9 => h9.1 c21), ← hc2]) (by omega)
                      · refine z_iload hz dX10_goes_136 7 rfl ?_
                        refine z_iload hz dX10_goes_138 10 rfl ?_
                        refine z_callRD (st2 := [.int (zB (hasB (h (374 + k)) (nI q)))]) hz zKp.mt (zk_S hz (rm := (zRm 0 0 0 0)) (As := [.int (h (374 + k)), .int (nI q)]) (rest := []) 2 q2272 q2273 q95 q2274 (by decide +kernel) ⟨Nat.le_of_ble_eq_true rfl, Nat.le_of_ble_eq_true rfl⟩ ⟨Nat.le_of_ble_eq_true rfl, Nat.le_of_ble_eq_true rfl⟩ rfl rfl (Nat.le_of_ble_eq_true rfl) dX10_goes_140) (mM_has (h (374 + k)) (nI q)) (fun _ _ _ => zP0) rfl ?_
                        refine z_ifB_eq hz 188 dX10_goes_143 (by decide) (fun c22 => ?_) (fun c22 => ?_)
                        · refine z_iinc (lv' := [(0, .ref (ad 99)), (1, .int room), (2, .int t), (3, .int (nI nw)), (4, .int all), (5, .int gone), (6, .int (nI k)), (7, .int (h (374 + k))), (8, .int can), (9, .int kn), (10, .int (nI (q + 1)))]) hz (nI (q + 1)) 10 [1, 2, 3, 4, 5, 6, 7, 8, 9, 10, 0] dX10_goes_188 rfl (nI_1 _) (by decide) rfl ?_
                          refine z_goto hz 120 dX10_goes_191 (by decide) ?_
                          exact ih_120 (q + 1) can kn (by omega) (by simp only [gnF]; rw [← hc1, if_neg (fun h9 => c22 h9.2), ← hc1]) (by simp only [gnF]; rw [← hc1, if_neg (fun h9 => c22 h9.2), ← hc2]) (by omega)
                        · refine z_iload hz dX10_goes_146 9 rfl ?_
                          refine z_aload_n hz dX10_goes_148 0 rfl rfl ?_
                          refine z_iload hz dX10_goes_149 10 rfl ?_
                          refine z_iconst hz 3 dX10_goes_151 ki_3 ?_
                          refine z_callRD (st2 := [.int (h (36 + 5 * q + 3)), .int kn]) hz zKp.mt (zk_V hz (rm := (zRm 0 0 0 0)) (As := [.int (nI q), .int 3]) (rest := [.int kn]) 2 q2057 q2059 qs38 q95 q2060 (by decide +kernel) ⟨Nat.le_of_ble_eq_true rfl, Nat.le_of_ble_eq_true rfl⟩ ⟨Nat.le_of_ble_eq_true rfl, Nat.le_of_ble_eq_true rfl⟩ (zRecv (q := (RX10, TX10, 29)) hz (zAt.mt 0 0 rfl rfl) rfl) rfl rfl (Nat.le_of_ble_eq_true rfl) dX10_goes_152) (mM_man2 ad (upd iv 14 (nI wc)) h q 3 (by omega)) (fun H9 L9 h9 => (zPc (zAt.mt 0 0 rfl rfl) h9 (zPc (zAt.mt 1 0 rfl rfl) h9 zP0))) rfl ?_
                          refine z_iadd hz dX10_goes_155 ?_
                          refine z_istore (lv' := [(0, .ref (ad 99)), (1, .int room), (2, .int t), (3, .int (nI nw)), (4, .int all), (5, .int gone), (6, .int (nI k)), (7, .int (h (374 + k))), (8, .int can), (9, .int (kn + (h (36 + 5 * q + 3)))), (10, .int (nI q))]) hz [1, 2, 3, 4, 5, 6, 7, 8, 9, 0, 10] dX10_goes_156 (by decide) rfl ?_
                          refine z_aload_n hz dX10_goes_158 0 rfl rfl ?_
                          refine z_iload hz dX10_goes_159 10 rfl ?_
                          refine z_iconst hz 4 dX10_goes_161 ki_4 ?_
                          refine z_callRD (st2 := [.int (h (36 + 5 * q + 4))]) hz zKp.mt (zk_V hz (rm := (zRm 0 0 0 0)) (As := [.int (nI q), .int 4]) (rest := []) 2 q2057 q2059 qs38 q95 q2060 (by decide +kernel) ⟨Nat.le_of_ble_eq_true rfl, Nat.le_of_ble_eq_true rfl⟩ ⟨Nat.le_of_ble_eq_true rfl, Nat.le_of_ble_eq_true rfl⟩ (zRecv (q := (RX10, TX10, 29)) hz (zAt.mt 0 0 rfl rfl) rfl) rfl rfl (Nat.le_of_ble_eq_true rfl) dX10_goes_162) (mM_man2 ad (upd iv 14 (nI wc)) h q 4 (by omega)) (fun H9 L9 h9 => (zPc (zAt.mt 0 0 rfl rfl) h9 (zPc (zAt.mt 1 0 rfl rfl) h9 zP0))) rfl ?_
                          refine z_aload_n hz dX10_goes_165 0 rfl rfl ?_
                          refine z_get (C := RX10) (T := TX10) (N := 29) hz in_X10 (zAt.mt 0 0 rfl rfl) rfl 0 (by decide) q1929 (fun _ h9 => h9) rfl dX10_goes_166 ?_
                          refine z_iconst hz 0 dX10_goes_169 ki_0 ?_
                          refine z_iald hz (zAt.mt 1 0 rfl rfl) kn_0 (by decide) (by decide) dX10_goes_170 ?_
                          refine z_iload hz dX10_goes_171 6 rfl ?_
                          refine z_iconst hz 1 dX10_goes_173 ki_1 ?_
                          refine z_iaddN hz rfl kn_1 dX10_goes_174 ?_
                          refine z_iload_n hz dX10_goes_175 2 rfl rfl ?_
                          refine z_imul hz dX10_goes_176 ?_
                          refine z_iadd hz dX10_goes_177 ?_
                          refine z_icmp_lt hz 185 dX10_goes_178 (by decide) (fun c23 => ?_) (fun c23 => ?_)
                          · refine z_iconst hz 0 dX10_goes_185 ki_0 ?_
                            refine z_istore (lv' := [(0, .ref (ad 99)), (1, .int room), (2, .int t), (3, .int (nI nw)), (4, .int all), (5, .int gone), (6, .int (nI k)), (7, .int (h (374 + k))), (8, .int 0), (9, .int (kn + (h (36 + 5 * q + 3)))), (10, .int (nI q))]) hz [1, 2, 3, 4, 5, 6, 7, 8, 0, 9, 10] dX10_goes_186 (by decide) rfl ?_
                            refine z_iinc (lv' := [(0, .ref (ad 99)), (1, .int room), (2, .int t), (3, .int (nI nw)), (4, .int all), (5, .int gone), (6, .int (nI k)), (7, .int (h (374 + k))), (8, .int 0), (9, .int (kn + (h (36 + 5 * q + 3)))), (10, .int (nI (q + 1)))]) hz (nI (q + 1)) 10 [1, 2, 3, 4, 5, 6, 7, 8, 9, 10, 0] dX10_goes_188 rfl (nI_1 _) (by decide) rfl ?_
                            refine z_goto hz 120 dX10_goes_191 (by decide) ?_
                            exact ih_120 (q + 1) 0 (kn + (h (36 + 5 * q + 3))) (by omega) (by simp only [gnF]; rw [← hc1, ← hc2, if_pos ⟨c21, c22⟩]; simp only []; rw [if_neg (Int32.not_le.mpr c23)]) (by simp only [gnF]; rw [← hc1, ← hc2, if_pos ⟨c21, c22⟩]) (by omega)
                          · refine z_iconst hz 1 dX10_goes_181 ki_1 ?_
                            refine z_goto hz 186 dX10_goes_182 (by decide) ?_
                            refine z_istore (lv' := [(0, .ref (ad 99)), (1, .int room), (2, .int t), (3, .int (nI nw)), (4, .int all), (5, .int gone), (6, .int (nI k)), (7, .int (h (374 + k))), (8, .int 1), (9, .int (kn + (h (36 + 5 * q + 3)))), (10, .int (nI q))]) hz [1, 2, 3, 4, 5, 6, 7, 8, 0, 9, 10] dX10_goes_186 (by decide) rfl ?_
                            refine z_iinc (lv' := [(0, .ref (ad 99)), (1, .int room), (2, .int t), (3, .int (nI nw)), (4, .int all), (5, .int gone), (6, .int (nI k)), (7, .int (h (374 + k))), (8, .int 1), (9, .int (kn + (h (36 + 5 * q + 3)))), (10, .int (nI (q + 1)))]) hz (nI (q + 1)) 10 [1, 2, 3, 4, 5, 6, 7, 8, 9, 10, 0] dX10_goes_188 rfl (nI_1 _) (by decide) rfl ?_
                            refine z_goto hz 120 dX10_goes_191 (by decide) ?_
                            exact ih_120 (q + 1) 1 (kn + (h (36 + 5 * q + 3))) (by omega) (by simp only [gnF]; rw [← hc1, ← hc2, if_pos ⟨c21, c22⟩]; simp only []; rw [if_pos (Int32.not_lt.mp c23)]) (by simp only [gnF]; rw [← hc1, ← hc2, if_pos ⟨c21, c22⟩]) (by omega)
                exact lp_120 ((nm - 0) + 1) 0 0 0 (Nat.zero_le _) (by simp only [gnF, gcF]; rw [if_neg (fun h9 => c17 h9.2.2.1)]) rfl (Nat.lt_succ_self _)
              · refine z_iload hz dX10_goes_98 7 rfl ?_
                refine z_callRD (st2 := [.int (bitsF (h (374 + k)) 16)]) hz zKp.mt (zk_S hz (rm := (zRm 0 0 0 0)) (As := [.int (h (374 + k))]) (rest := []) 1 q2142 q2143 q95 q2144 (by decide +kernel) ⟨Nat.le_of_ble_eq_true rfl, Nat.le_of_ble_eq_true rfl⟩ ⟨Nat.le_of_ble_eq_true rfl, Nat.le_of_ble_eq_true rfl⟩ rfl rfl (Nat.le_of_ble_eq_true rfl) dX10_goes_100) (mM_bits (h (374 + k))) (fun _ _ _ => zP0) rfl ?_
                refine z_iconst hz 3 dX10_goes_103 ki_3 ?_
                refine z_icmp_ge hz 111 dX10_goes_104 (by decide) (fun c24 => ?_) (fun c24 => ?_)
                · refine z_iconst hz 0 dX10_goes_111 ki_0 ?_
                  refine z_istore (lv' := [(0, .ref (ad 99)), (1, .int room), (2, .int t), (3, .int (nI nw)), (4, .int all), (5, .int gone), (6, .int (nI k)), (7, .int (h (374 + k))), (8, .int 0)]) hz [1, 2, 3, 4, 5, 6, 7, 8, 0] dX10_goes_112 (by decide) rfl ?_
                  refine z_iconst hz 0 dX10_goes_114 ki_0 ?_
                  refine z_istore (lv' := [(0, .ref (ad 99)), (1, .int room), (2, .int t), (3, .int (nI nw)), (4, .int all), (5, .int gone), (6, .int (nI k)), (7, .int (h (374 + k))), (8, .int 0), (9, .int 0)]) hz [1, 2, 3, 4, 5, 6, 7, 8, 9, 0] dX10_goes_115 (by decide) rfl ?_
                  refine z_iconst hz 0 dX10_goes_117 ki_0 ?_
                  refine z_istore (lv' := [(0, .ref (ad 99)), (1, .int room), (2, .int t), (3, .int (nI nw)), (4, .int all), (5, .int gone), (6, .int (nI k)), (7, .int (h (374 + k))), (8, .int 0), (9, .int 0), (10, .int 0)]) hz [1, 2, 3, 4, 5, 6, 7, 8, 9, 10, 0] dX10_goes_118 (by decide) rfl ?_
                  have lp_120 : ∀ (n9 : Nat) (q : Nat) (can : Int32) (kn : Int32), q ≤ nm → can = (gnF h (h (374 + k)) k t (gcF all (h (374 + k)) gone) q).1 → kn = (gnF h (h (374 + k)) k t (gcF all (h (374 + k)) gone) q).2 → nm - q < n9 → zW p G.1 e (zRm 3 0 0 110) s m args below meth c 11 Q 0 0 (zΦ G A s [zO (ad 99) 10 (mFs ad (upd iv 14 (nI wc))), zI (G.2.2.1 0) (ad 0) 602 h, zI (G.2.2.1 0) (ad 4) 6 er, zI (G.2.2.1 0) (ad 13) 10 W]) 120 [(0, .ref (ad 99)), (1, .int room), (2, .int t), (3, .int (nI nw)), (4, .int all), (5, .int gone), (6, .int (nI k)), (7, .int (h (374 + k))), (8, .int can), (9, .int kn), (10, .int (nI q))] [] := by
                    intro n9
                    induction n9 with
                    | zero => intro _ _ _ _ _ _ hm; exact absurd hm (Nat.not_lt_zero _)
                    | succ n9 ih_120 =>
                      intro q can kn hq hc1 hc2 hm_120
                      refine z_iload hz dX10_goes_120 10 rfl ?_
                      refine z_aload_n hz dX10_goes_122 0 rfl rfl ?_
                      refine z_get (C := RX10) (T := TX10) (N := 29) hz in_X10 (zAt.mt 0 0 rfl rfl) rfl 0 (by decide) q1929 (fun _ h9 => h9) rfl dX10_goes_123 ?_
                      refine z_iconst hz 1 dX10_goes_126 ki_1 ?_
                      refine z_iald hz (zAt.mt 1 0 rfl rfl) kn_1 (by decide) (by decide) dX10_goes_127 ?_
                      refine z_top hn1 ?_
                      refine z_icmpN_ge hz rfl rfl (by omega) (by omega) 194 dX10_goes_128 (by decide) (fun c25 => ?_) (fun c25 => ?_)
                      · refine z_iload hz dX10_goes_194 8 rfl ?_
                        refine z_if_eq hz 204 dX10_goes_196 (by decide) (fun c26 => ?_) (fun c26 => ?_)
                        · refine z_iconst hz 1 dX10_goes_204 ki_1 ?_
                          refine z_iload hz dX10_goes_205 6 rfl ?_
                          refine z_iaddN hz kn_1 rfl dX10_goes_207 ?_
                          exact z_iret hQ hz hr hlk dX10_goes_208 (by
                            have e9 : sGoes g wh room t = (0, nI (1 + k), h) := by have z9 : goesR h nm all t (nw - k) k gone = nI (1 + k) := (by rw [show nw - k = (nw - (k + 1)) + 1 by omega]; simp only [goesR]; rw [show nm = q by omega, ← hc1, ← hc2, if_pos (Or.inl c26)]); simp only [sGoes, whW, whC]; rw [hh, if_pos c1]; simp only [hn1, hnm, tnm, hnw, tnw, hW, hC, ← hP2, hAll]; rw [hG, z9]
                            rw [e9]; exact ⟨rfl, _, _, rfl, ⟨rfl, rfl⟩⟩)
                        · refine z_iload hz dX10_goes_199 9 rfl ?_
                          refine z_if_ne hz 209 dX10_goes_201 (by decide) (fun c27 => ?_) (fun c27 => ?_)
                          · refine z_iload hz dX10_goes_209 5 rfl ?_
                            refine z_iload hz dX10_goes_211 7 rfl ?_
                            refine z_ior hz dX10_goes_213 ?_
                            refine z_istore (lv' := [(0, .ref (ad 99)), (1, .int room), (2, .int t), (3, .int (nI nw)), (4, .int all), (5, .int (gone ||| (h (374 + k)))), (6, .int (nI k)), (7, .int (h (374 + k))), (8, .int can), (9, .int kn), (10, .int (nI q))]) hz [1, 2, 3, 4, 5, 0, 6, 7, 8, 9, 10] dX10_goes_214 (by decide) rfl ?_
                            refine z_iinc (lv' := [(0, .ref (ad 99)), (1, .int room), (2, .int t), (3, .int (nI nw)), (4, .int all), (5, .int (gone ||| (h (374 + k)))), (6, .int (nI (k + 1))), (7, .int (h (374 + k))), (8, .int can), (9, .int kn), (10, .int (nI q))]) hz (nI (k + 1)) 6 [1, 2, 3, 4, 5, 6, 0, 7, 8, 9, 10] dX10_goes_216 rfl (nI_1 _) (by decide) rfl ?_
                            refine z_goto hz 56 dX10_goes_219 (by decide) ?_
                            refine z_lv [0, 1, 2, 3, 4, 5, 6] rfl ?_
                            exact ih_56 (k + 1) (gone ||| (h (374 + k))) (by omega) (by rw [hG, show nw - k = (nw - (k + 1)) + 1 by omega]; simp only [goesR]; rw [show nm = q by omega, ← hc1, ← hc2, if_neg (fun h9 => h9.elim c26 c27)]) (by omega)
                          · refine z_iconst hz 1 dX10_goes_204 ki_1 ?_
                            refine z_iload hz dX10_goes_205 6 rfl ?_
                            refine z_iaddN hz kn_1 rfl dX10_goes_207 ?_
                            exact z_iret hQ hz hr hlk dX10_goes_208 (by
                              have e9 : sGoes g wh room t = (0, nI (1 + k), h) := by have z9 : goesR h nm all t (nw - k) k gone = nI (1 + k) := (by rw [show nw - k = (nw - (k + 1)) + 1 by omega]; simp only [goesR]; rw [show nm = q by omega, ← hc1, ← hc2, if_pos (Or.inr c27)]); simp only [sGoes, whW, whC]; rw [hh, if_pos c1]; simp only [hn1, hnm, tnm, hnw, tnw, hW, hC, ← hP2, hAll]; rw [hG, z9]
                              rw [e9]; exact ⟨rfl, _, _, rfl, ⟨rfl, rfl⟩⟩)
                      · refine z_iload hz dX10_goes_131 8 rfl ?_
                        refine z_if_eq hz 188 dX10_goes_133 (by decide) (fun c28 => ?_) (fun c28 => ?_)
                        · refine z_iinc (lv' := [(0, .ref (ad 99)), (1, .int room), (2, .int t), (3, .int (nI nw)), (4, .int all), (5, .int gone), (6, .int (nI k)), (7, .int (h (374 + k))), (8, .int can), (9, .int kn), (10, .int (nI (q + 1)))]) hz (nI (q + 1)) 10 [1, 2, 3, 4, 5, 6, 7, 8, 9, 10, 0] dX10_goes_188 rfl (nI_1 _) (by decide) rfl ?_
                          refine z_goto hz 120 dX10_goes_191 (by decide) ?_
                          exact ih_120 (q + 1) can kn (by omega) (by simp only [gnF]; rw [← hc1, if_neg (fun h9 => h9.1 c28), ← hc1]) (by simp only [gnF]; rw [← hc1, if_neg (fun h9 => h9.1 c28), ← hc2]) (by omega)
                        · refine z_iload hz dX10_goes_136 7 rfl ?_
                          refine z_iload hz dX10_goes_138 10 rfl ?_
                          refine z_callRD (st2 := [.int (zB (hasB (h (374 + k)) (nI q)))]) hz zKp.mt (zk_S hz (rm := (zRm 0 0 0 0)) (As := [.int (h (374 + k)), .int (nI q)]) (rest := []) 2 q2272 q2273 q95 q2274 (by decide +kernel) ⟨Nat.le_of_ble_eq_true rfl, Nat.le_of_ble_eq_true rfl⟩ ⟨Nat.le_of_ble_eq_true rfl, Nat.le_of_ble_eq_true rfl⟩ rfl rfl (Nat.le_of_ble_eq_true rfl) dX10_goes_140) (mM_has (h (374 + k)) (nI q)) (fun _ _ _ => zP0) rfl ?_
                          refine z_ifB_eq hz 188 dX10_goes_143 (by decide) (fun c29 => ?_) (fun c29 => ?_)
                          · refine z_iinc (lv' := [(0, .ref (ad 99)), (1, .int room), (2, .int t), (3, .int (nI nw)), (4, .int all), (5, .int gone), (6, .int (nI k)), (7, .int (h (374 + k))), (8, .int can), (9, .int kn), (10, .int (nI (q + 1)))]) hz (nI (q + 1)) 10 [1, 2, 3, 4, 5, 6, 7, 8, 9, 10, 0] dX10_goes_188 rfl (nI_1 _) (by decide) rfl ?_
                            refine z_goto hz 120 dX10_goes_191 (by decide) ?_
                            exact ih_120 (q + 1) can kn (by omega) (by simp only [gnF]; rw [← hc1, if_neg (fun h9 => c29 h9.2), ← hc1]) (by simp only [gnF]; rw [← hc1, if_neg (fun h9 => c29 h9.2), ← hc2]) (by omega)
                          · refine z_iload hz dX10_goes_146 9 rfl ?_
                            refine z_aload_n hz dX10_goes_148 0 rfl rfl ?_
                            refine z_iload hz dX10_goes_149 10 rfl ?_
                            refine z_iconst hz 3 dX10_goes_151 ki_3 ?_
                            refine z_callRD (st2 := [.int (h (36 + 5 * q + 3)), .int kn]) hz zKp.mt (zk_V hz (rm := (zRm 0 0 0 0)) (As := [.int (nI q), .int 3]) (rest := [.int kn]) 2 q2057 q2059 qs38 q95 q2060 (by decide +kernel) ⟨Nat.le_of_ble_eq_true rfl, Nat.le_of_ble_eq_true rfl⟩ ⟨Nat.le_of_ble_eq_true rfl, Nat.le_of_ble_eq_true rfl⟩ (zRecv (q := (RX10, TX10, 29)) hz (zAt.mt 0 0 rfl rfl) rfl) rfl rfl (Nat.le_of_ble_eq_true rfl) dX10_goes_152) (mM_man2 ad (upd iv 14 (nI wc)) h q 3 (by omega)) (fun H9 L9 h9 => (zPc (zAt.mt 0 0 rfl rfl) h9 (zPc (zAt.mt 1 0 rfl rfl) h9 zP0))) rfl ?_
                            refine z_iadd hz dX10_goes_155 ?_
                            refine z_istore (lv' := [(0, .ref (ad 99)), (1, .int room), (2, .int t), (3, .int (nI nw)), (4, .int all), (5, .int gone), (6, .int (nI k)), (7, .int (h (374 + k))), (8, .int can), (9, .int (kn + (h (36 + 5 * q + 3)))), (10, .int (nI q))]) hz [1, 2, 3, 4, 5, 6, 7, 8, 9, 0, 10] dX10_goes_156 (by decide) rfl ?_
                            refine z_aload_n hz dX10_goes_158 0 rfl rfl ?_
                            refine z_iload hz dX10_goes_159 10 rfl ?_
                            refine z_iconst hz 4 dX10_goes_161 ki_4 ?_
                            refine z_callRD (st2 := [.int (h (36 + 5 * q + 4))]) hz zKp.mt (zk_V hz (rm := (zRm 0 0 0 0)) (As := [.int (nI q), .int 4]) (rest := []) 2 q2057 q2059 qs38 q95 q2060 (by decide +kernel) ⟨Nat.le_of_ble_eq_true rfl, Nat.le_of_ble_eq_true rfl⟩ ⟨Nat.le_of_ble_eq_true rfl, Nat.le_of_ble_eq_true rfl⟩ (zRecv (q := (RX10, TX10, 29)) hz (zAt.mt 0 0 rfl rfl) rfl) rfl rfl (Nat.le_of_ble_eq_true rfl) dX10_goes_162) (mM_man2 ad (upd iv 14 (nI wc)) h q 4 (by omega)) (fun H9 L9 h9 => (zPc (zAt.mt 0 0 rfl rfl) h9 (zPc (zAt.mt 1 0 rfl rfl) h9 zP0))) rfl ?_
                            refine z_aload_n hz dX10_goes_165 0 rfl rfl ?_
                            refine z_get (C := RX10) (T := TX10) (N := 29) hz in_X10 (zAt.mt 0 0 rfl rfl) rfl 0 (by decide) q1929 (fun _ h9 => h9) rfl dX10_goes_166 ?_
                            refine z_iconst hz 0 dX10_goes_169 ki_0 ?_
                            refine z_iald hz (zAt.mt 1 0 rfl rfl) kn_0 (by decide) (by decide) dX10_goes_170 ?_
                            refine z_iload hz dX10_goes_171 6 rfl ?_
                            refine z_iconst hz 1 dX10_goes_173 ki_1 ?_
                            refine z_iaddN hz rfl kn_1 dX10_goes_174 ?_
                            refine z_iload_n hz dX10_goes_175 2 rfl rfl ?_
                            refine z_imul hz dX10_goes_176 ?_
                            refine z_iadd hz dX10_goes_177 ?_
                            refine z_icmp_lt hz 185 dX10_goes_178 (by decide) (fun c30 => ?_) (fun c30 => ?_)
                            · refine z_iconst hz 0 dX10_goes_185 ki_0 ?_
                              refine z_istore (lv' := [(0, .ref (ad 99)), (1, .int room), (2, .int t), (3, .int (nI nw)), (4, .int all), (5, .int gone), (6, .int (nI k)), (7, .int (h (374 + k))), (8, .int 0), (9, .int (kn + (h (36 + 5 * q + 3)))), (10, .int (nI q))]) hz [1, 2, 3, 4, 5, 6, 7, 8, 0, 9, 10] dX10_goes_186 (by decide) rfl ?_
                              refine z_iinc (lv' := [(0, .ref (ad 99)), (1, .int room), (2, .int t), (3, .int (nI nw)), (4, .int all), (5, .int gone), (6, .int (nI k)), (7, .int (h (374 + k))), (8, .int 0), (9, .int (kn + (h (36 + 5 * q + 3)))), (10, .int (nI (q + 1)))]) hz (nI (q + 1)) 10 [1, 2, 3, 4, 5, 6, 7, 8, 9, 10, 0] dX10_goes_188 rfl (nI_1 _) (by decide) rfl ?_
                              refine z_goto hz 120 dX10_goes_191 (by decide) ?_
                              exact ih_120 (q + 1) 0 (kn + (h (36 + 5 * q + 3))) (by omega) (by simp only [gnF]; rw [← hc1, ← hc2, if_pos ⟨c28, c29⟩]; simp only []; rw [if_neg (Int32.not_le.mpr c30)]) (by simp only [gnF]; rw [← hc1, ← hc2, if_pos ⟨c28, c29⟩]) (by omega)
                            · refine z_iconst hz 1 dX10_goes_181 ki_1 ?_
                              refine z_goto hz 186 dX10_goes_182 (by decide) ?_
                              refine z_istore (lv' := [(0, .ref (ad 99)), (1, .int room), (2, .int t), (3, .int (nI nw)), (4, .int all), (5, .int gone), (6, .int (nI k)), (7, .int (h (374 + k))), (8, .int 1), (9, .int (kn + (h (36 + 5 * q + 3)))), (10, .int (nI q))]) hz [1, 2, 3, 4, 5, 6, 7, 8, 0, 9, 10] dX10_goes_186 (by decide) rfl ?_
                              refine z_iinc (lv' := [(0, .ref (ad 99)), (1, .int room), (2, .int t), (3, .int (nI nw)), (4, .int all), (5, .int gone), (6, .int (nI k)), (7, .int (h (374 + k))), (8, .int 1), (9, .int (kn + (h (36 + 5 * q + 3)))), (10, .int (nI (q + 1)))]) hz (nI (q + 1)) 10 [1, 2, 3, 4, 5, 6, 7, 8, 9, 10, 0] dX10_goes_188 rfl (nI_1 _) (by decide) rfl ?_
                              refine z_goto hz 120 dX10_goes_191 (by decide) ?_
                              exact ih_120 (q + 1) 1 (kn + (h (36 + 5 * q + 3))) (by omega) (by simp only [gnF]; rw [← hc1, ← hc2, if_pos ⟨c28, c29⟩]; simp only []; rw [if_pos (Int32.not_lt.mp c30)]) (by simp only [gnF]; rw [← hc1, ← hc2, if_pos ⟨c28, c29⟩]) (by omega)
                  exact lp_120 ((nm - 0) + 1) 0 0 0 (Nat.zero_le _) (by simp only [gnF, gcF]; rw [if_neg (fun h9 => (Int32.not_lt.mpr c24) h9.2.2.2)]) rfl (Nat.lt_succ_self _)
                · refine z_iconst hz 1 dX10_goes_107 ki_1 ?_
                  refine z_goto hz 112 dX10_goes_108 (by decide) ?_
                  refine z_istore (lv' := [(0, .ref (ad 99)), (1, .int room), (2, .int t), (3, .int (nI nw)), (4, .int all), (5, .int gone), (6, .int (nI k)), (7, .int (h (374 + k))), (8, .int 1)]) hz [1, 2, 3, 4, 5, 6, 7, 8, 0] dX10_goes_112 (by decide) rfl ?_
                  refine z_iconst hz 0 dX10_goes_114 ki_0 ?_
                  refine z_istore (lv' := [(0, .ref (ad 99)), (1, .int room), (2, .int t), (3, .int (nI nw)), (4, .int all), (5, .int gone), (6, .int (nI k)), (7, .int (h (374 + k))), (8, .int 1), (9, .int 0)]) hz [1, 2, 3, 4, 5, 6, 7, 8, 9, 0] dX10_goes_115 (by decide) rfl ?_
                  refine z_iconst hz 0 dX10_goes_117 ki_0 ?_
                  refine z_istore (lv' := [(0, .ref (ad 99)), (1, .int room), (2, .int t), (3, .int (nI nw)), (4, .int all), (5, .int gone), (6, .int (nI k)), (7, .int (h (374 + k))), (8, .int 1), (9, .int 0), (10, .int 0)]) hz [1, 2, 3, 4, 5, 6, 7, 8, 9, 10, 0] dX10_goes_118 (by decide) rfl ?_
                  have lp_120 : ∀ (n9 : Nat) (q : Nat) (can : Int32) (kn : Int32), q ≤ nm → can = (gnF h (h (374 + k)) k t (gcF all (h (374 + k)) gone) q).1 → kn = (gnF h (h (374 + k)) k t (gcF all (h (374 + k)) gone) q).2 → nm - q < n9 → zW p G.1 e (zRm 3 0 0 110) s m args below meth c 11 Q 0 0 (zΦ G A s [zO (ad 99) 10 (mFs ad (upd iv 14 (nI wc))), zI (G.2.2.1 0) (ad 0) 602 h, zI (G.2.2.1 0) (ad 4) 6 er, zI (G.2.2.1 0) (ad 13) 10 W]) 120 [(0, .ref (ad 99)), (1, .int room), (2, .int t), (3, .int (nI nw)), (4, .int all), (5, .int gone), (6, .int (nI k)), (7, .int (h (374 + k))), (8, .int can), (9, .int kn), (10, .int (nI q))] [] := by
                    intro n9
                    induction n9 with
                    | zero => intro _ _ _ _ _ _ hm; exact absurd hm (Nat.not_lt_zero _)
                    | succ n9 ih_120 =>
                      intro q can kn hq hc1 hc2 hm_120
                      refine z_iload hz dX10_goes_120 10 rfl ?_
                      refine z_aload_n hz dX10_goes_122 0 rfl rfl ?_
                      refine z_get (C := RX10) (T := TX10) (N := 29) hz in_X10 (zAt.mt 0 0 rfl rfl) rfl 0 (by decide) q1929 (fun _ h9 => h9) rfl dX10_goes_123 ?_
                      refine z_iconst hz 1 dX10_goes_126 ki_1 ?_
                      refine z_iald hz (zAt.mt 1 0 rfl rfl) kn_1 (by decide) (by decide) dX10_goes_127 ?_
                      refine z_top hn1 ?_
                      refine z_icmpN_ge hz rfl rfl (by omega) (by omega) 194 dX10_goes_128 (by decide) (fun c31 => ?_) (fun c31 => ?_)
                      · refine z_iload hz dX10_goes_194 8 rfl ?_
                        refine z_if_eq hz 204 dX10_goes_196 (by decide) (fun c32 => ?_) (fun c32 => ?_)
                        · refine z_iconst hz 1 dX10_goes_204 ki_1 ?_
                          refine z_iload hz dX10_goes_205 6 rfl ?_
                          refine z_iaddN hz kn_1 rfl dX10_goes_207 ?_
                          exact z_iret hQ hz hr hlk dX10_goes_208 (by
                            have e9 : sGoes g wh room t = (0, nI (1 + k), h) := by have z9 : goesR h nm all t (nw - k) k gone = nI (1 + k) := (by rw [show nw - k = (nw - (k + 1)) + 1 by omega]; simp only [goesR]; rw [show nm = q by omega, ← hc1, ← hc2, if_pos (Or.inl c32)]); simp only [sGoes, whW, whC]; rw [hh, if_pos c1]; simp only [hn1, hnm, tnm, hnw, tnw, hW, hC, ← hP2, hAll]; rw [hG, z9]
                            rw [e9]; exact ⟨rfl, _, _, rfl, ⟨rfl, rfl⟩⟩)
                        · refine z_iload hz dX10_goes_199 9 rfl ?_
                          refine z_if_ne hz 209 dX10_goes_201 (by decide) (fun c33 => ?_) (fun c33 => ?_)
                          · refine z_iload hz dX10_goes_209 5 rfl ?_
                            refine z_iload hz dX10_goes_211 7 rfl ?_
                            refine z_ior hz dX10_goes_213 ?_
                            refine z_istore (lv' := [(0, .ref (ad 99)), (1, .int room), (2, .int t), (3, .int (nI nw)), (4, .int all), (5, .int (gone ||| (h (374 + k)))), (6, .int (nI k)), (7, .int (h (374 + k))), (8, .int can), (9, .int kn), (10, .int (nI q))]) hz [1, 2, 3, 4, 5, 0, 6, 7, 8, 9, 10] dX10_goes_214 (by decide) rfl ?_
                            refine z_iinc (lv' := [(0, .ref (ad 99)), (1, .int room), (2, .int t), (3, .int (nI nw)), (4, .int all), (5, .int (gone ||| (h (374 + k)))), (6, .int (nI (k + 1))), (7, .int (h (374 + k))), (8, .int can), (9, .int kn), (10, .int (nI q))]) hz (nI (k + 1)) 6 [1, 2, 3, 4, 5, 6, 0, 7, 8, 9, 10] dX10_goes_216 rfl (nI_1 _) (by decide) rfl ?_
                            refine z_goto hz 56 dX10_goes_219 (by decide) ?_
                            refine z_lv [0, 1, 2, 3, 4, 5, 6] rfl ?_
                            exact ih_56 (k + 1) (gone ||| (h (374 + k))) (by omega) (by rw [hG, show nw - k = (nw - (k + 1)) + 1 by omega]; simp only [goesR]; rw [show nm = q by omega, ← hc1, ← hc2, if_neg (fun h9 => h9.elim c32 c33)]) (by omega)
                          · refine z_iconst hz 1 dX10_goes_204 ki_1 ?_
                            refine z_iload hz dX10_goes_205 6 rfl ?_
                            refine z_iaddN hz kn_1 rfl dX10_goes_207 ?_
                            exact z_iret hQ hz hr hlk dX10_goes_208 (by
                              have e9 : sGoes g wh room t = (0, nI (1 + k), h) := by have z9 : goesR h nm all t (nw - k) k gone = nI (1 + k) := (by rw [show nw - k = (nw - (k + 1)) + 1 by omega]; simp only [goesR]; rw [show nm = q by omega, ← hc1, ← hc2, if_pos (Or.inr c33)]); simp only [sGoes, whW, whC]; rw [hh, if_pos c1]; simp only [hn1, hnm, tnm, hnw, tnw, hW, hC, ← hP2, hAll]; rw [hG, z9]
                              rw [e9]; exact ⟨rfl, _, _, rfl, ⟨rfl, rfl⟩⟩)
                      · refine z_iload hz dX10_goes_131 8 rfl ?_
                        refine z_if_eq hz 188 dX10_goes_133 (by decide) (fun c34 => ?_) (fun c34 => ?_)
                        · refine z_iinc (lv' := [(0, .ref (ad 99)), (1, .int room), (2, .int t), (3, .int (nI nw)), (4, .int all), (5, .int gone), (6, .int (nI k)), (7, .int (h (374 + k))), (8, .int can), (9, .int kn), (10, .int (nI (q + 1)))]) hz (nI (q + 1)) 10 [1, 2, 3, 4, 5, 6, 7, 8, 9, 10, 0] dX10_goes_188 rfl (nI_1 _) (by decide) rfl ?_
                          refine z_goto hz 120 dX10_goes_191 (by decide) ?_
                          exact ih_120 (q + 1) can kn (by omega) (by simp only [gnF]; rw [← hc1, if_neg (fun h9 => h9.1 c34), ← hc1]) (by simp only [gnF]; rw [← hc1, if_neg (fun h9 => h9.1 c34), ← hc2]) (by omega)
                        · refine z_iload hz dX10_goes_136 7 rfl ?_
                          refine z_iload hz dX10_goes_138 10 rfl ?_
                          refine z_callRD (st2 := [.int (zB (hasB (h (374 + k)) (nI q)))]) hz zKp.mt (zk_S hz (rm := (zRm 0 0 0 0)) (As := [.int (h (374 + k)), .int (nI q)]) (rest := []) 2 q2272 q2273 q95 q2274 (by decide +kernel) ⟨Nat.le_of_ble_eq_true rfl, Nat.le_of_ble_eq_true rfl⟩ ⟨Nat.le_of_ble_eq_true rfl, Nat.le_of_ble_eq_true rfl⟩ rfl rfl (Nat.le_of_ble_eq_true rfl) dX10_goes_140) (mM_has (h (374 + k)) (nI q)) (fun _ _ _ => zP0) rfl ?_
                          refine z_ifB_eq hz 188 dX10_goes_143 (by decide) (fun c35 => ?_) (fun c35 => ?_)
                          · refine z_iinc (lv' := [(0, .ref (ad 99)), (1, .int room), (2, .int t), (3, .int (nI nw)), (4, .int all), (5, .int gone), (6, .int (nI k)), (7, .int (h (374 + k))), (8, .int can), (9, .int kn), (10, .int (nI (q + 1)))]) hz (nI (q + 1)) 10 [1, 2, 3, 4, 5, 6, 7, 8, 9, 10, 0] dX10_goes_188 rfl (nI_1 _) (by decide) rfl ?_
                            refine z_goto hz 120 dX10_goes_191 (by decide) ?_
                            exact ih_120 (q + 1) can kn (by omega) (by simp only [gnF]; rw [← hc1, if_neg (fun h9 => c35 h9.2), ← hc1]) (by simp only [gnF]; rw [← hc1, if_neg (fun h9 => c35 h9.2), ← hc2]) (by omega)
                          · refine z_iload hz dX10_goes_146 9 rfl ?_
                            refine z_aload_n hz dX10_goes_148 0 rfl rfl ?_
                            refine z_iload hz dX10_goes_149 10 rfl ?_
                            refine z_iconst hz 3 dX10_goes_151 ki_3 ?_
                            refine z_callRD (st2 := [.int (h (36 + 5 * q + 3)), .int kn]) hz zKp.mt (zk_V hz (rm := (zRm 0 0 0 0)) (As := [.int (nI q), .int 3]) (rest := [.int kn]) 2 q2057 q2059 qs38 q95 q2060 (by decide +kernel) ⟨Nat.le_of_ble_eq_true rfl, Nat.le_of_ble_eq_true rfl⟩ ⟨Nat.le_of_ble_eq_true rfl, Nat.le_of_ble_eq_true rfl⟩ (zRecv (q := (RX10, TX10, 29)) hz (zAt.mt 0 0 rfl rfl) rfl) rfl rfl (Nat.le_of_ble_eq_true rfl) dX10_goes_152) (mM_man2 ad (upd iv 14 (nI wc)) h q 3 (by omega)) (fun H9 L9 h9 => (zPc (zAt.mt 0 0 rfl rfl) h9 (zPc (zAt.mt 1 0 rfl rfl) h9 zP0))) rfl ?_
                            refine z_iadd hz dX10_goes_155 ?_
                            refine z_istore (lv' := [(0, .ref (ad 99)), (1, .int room), (2, .int t), (3, .int (nI nw)), (4, .int all), (5, .int gone), (6, .int (nI k)), (7, .int (h (374 + k))), (8, .int can), (9, .int (kn + (h (36 + 5 * q + 3)))), (10, .int (nI q))]) hz [1, 2, 3, 4, 5, 6, 7, 8, 9, 0, 10] dX10_goes_156 (by decide) rfl ?_
                            refine z_aload_n hz dX10_goes_158 0 rfl rfl ?_
                            refine z_iload hz dX10_goes_159 10 rfl ?_
                            refine z_iconst hz 4 dX10_goes_161 ki_4 ?_
                            refine z_callRD (st2 := [.int (h (36 + 5 * q + 4))]) hz zKp.mt (zk_V hz (rm := (zRm 0 0 0 0)) (As := [.int (nI q), .int 4]) (rest := []) 2 q2057 q2059 qs38 q95 q2060 (by decide +kernel) ⟨Nat.le_of_ble_eq_true rfl, Nat.le_of_ble_eq_true rfl⟩ ⟨Nat.le_of_ble_eq_true rfl, Nat.le_of_ble_eq_true rfl⟩ (zRecv (q := (RX10, TX10, 29)) hz (zAt.mt 0 0 rfl rfl) rfl) rfl rfl (Nat.le_of_ble_eq_true rfl) dX10_goes_162) (mM_man2 ad (upd iv 14 (nI wc)) h q 4 (by omega)) (fun H9 L9 h9 => (zPc (zAt.mt 0 0 rfl rfl) h9 (zPc (zAt.mt 1 0 rfl rfl) h9 zP0))) rfl ?_
                            refine z_aload_n hz dX10_goes_165 0 rfl rfl ?_
                            refine z_get (C := RX10) (T := TX10) (N := 29) hz in_X10 (zAt.mt 0 0 rfl rfl) rfl 0 (by decide) q1929 (fun _ h9 => h9) rfl dX10_goes_166 ?_
                            refine z_iconst hz 0 dX10_goes_169 ki_0 ?_
                            refine z_iald hz (zAt.mt 1 0 rfl rfl) kn_0 (by decide) (by decide) dX10_goes_170 ?_
                            refine z_iload hz dX10_goes_171 6 rfl ?_
                            refine z_iconst hz 1 dX10_goes_173 ki_1 ?_
                            refine z_iaddN hz rfl kn_1 dX10_goes_174 ?_
                            refine z_iload_n hz dX10_goes_175 2 rfl rfl ?_
                            refine z_imul hz dX10_goes_176 ?_
                            refine z_iadd hz dX10_goes_177 ?_
                            refine z_icmp_lt hz 185 dX10_goes_178 (by decide) (fun c36 => ?_) (fun c36 => ?_)
                            · refine z_iconst hz 0 dX10_goes_185 ki_0 ?_
                              refine z_istore (lv' := [(0, .ref (ad 99)), (1, .int room), (2, .int t), (3, .int (nI nw)), (4, .int all), (5, .int gone), (6, .int (nI k)), (7, .int (h (374 + k))), (8, .int 0), (9, .int (kn + (h (36 + 5 * q + 3)))), (10, .int (nI q))]) hz [1, 2, 3, 4, 5, 6, 7, 8, 0, 9, 10] dX10_goes_186 (by decide) rfl ?_
                              refine z_iinc (lv' := [(0, .ref (ad 99)), (1, .int room), (2, .int t), (3, .int (nI nw)), (4, .int all), (5, .int gone), (6, .int (nI k)), (7, .int (h (374 + k))), (8, .int 0), (9, .int (kn + (h (36 + 5 * q + 3)))), (10, .int (nI (q + 1)))]) hz (nI (q + 1)) 10 [1, 2, 3, 4, 5, 6, 7, 8, 9, 10, 0] dX10_goes_188 rfl (nI_1 _) (by decide) rfl ?_
                              refine z_goto hz 120 dX10_goes_191 (by decide) ?_
                              exact ih_120 (q + 1) 0 (kn + (h (36 + 5 * q + 3))) (by omega) (by simp only [gnF]; rw [← hc1, ← hc2, if_pos ⟨c34, c35⟩]; simp only []; rw [if_neg (Int32.not_le.mpr c36)]) (by simp only [gnF]; rw [← hc1, ← hc2, if_pos ⟨c34, c35⟩]) (by omega)
                            · refine z_iconst hz 1 dX10_goes_181 ki_1 ?_
                              refine z_goto hz 186 dX10_goes_182 (by decide) ?_
                              refine z_istore (lv' := [(0, .ref (ad 99)), (1, .int room), (2, .int t), (3, .int (nI nw)), (4, .int all), (5, .int gone), (6, .int (nI k)), (7, .int (h (374 + k))), (8, .int 1), (9, .int (kn + (h (36 + 5 * q + 3)))), (10, .int (nI q))]) hz [1, 2, 3, 4, 5, 6, 7, 8, 0, 9, 10] dX10_goes_186 (by decide) rfl ?_
                              refine z_iinc (lv' := [(0, .ref (ad 99)), (1, .int room), (2, .int t), (3, .int (nI nw)), (4, .int all), (5, .int gone), (6, .int (nI k)), (7, .int (h (374 + k))), (8, .int 1), (9, .int (kn + (h (36 + 5 * q + 3)))), (10, .int (nI (q + 1)))]) hz (nI (q + 1)) 10 [1, 2, 3, 4, 5, 6, 7, 8, 9, 10, 0] dX10_goes_188 rfl (nI_1 _) (by decide) rfl ?_
                              refine z_goto hz 120 dX10_goes_191 (by decide) ?_
                              exact ih_120 (q + 1) 1 (kn + (h (36 + 5 * q + 3))) (by omega) (by simp only [gnF]; rw [← hc1, ← hc2, if_pos ⟨c34, c35⟩]; simp only []; rw [if_pos (Int32.not_lt.mp c36)]) (by simp only [gnF]; rw [← hc1, ← hc2, if_pos ⟨c34, c35⟩]) (by omega)
                  exact lp_120 ((nm - 0) + 1) 0 1 0 (Nat.zero_le _) (by simp only [gnF, gcF]; rw [if_pos ⟨Int32.not_le.mp c3, c10, c17, (Int32.not_le.mp c24)⟩]) rfl (Nat.lt_succ_self _)
    exact lp_56 ((nw - 0) + 1) 0 0 (Nat.zero_le _) rfl (Nat.lt_succ_self _)
  · refine z_aload_n hz dX10_goes_24 0 rfl rfl ?_
    refine z_ldc hz q2031 dX10_goes_25 ?_
    refine z_callD (bs2 := [zO (ad 99) 10 (mFs ad iv), zI (G.2.2.1 0) (ad 0) 602 h, zI (G.2.2.1 0) (ad 4) 6 (upd er 1 (er 1 + 1)), zI (G.2.2.1 0) (ad 13) 10 wh]) (st2 := [.int (-1000001)]) hz hA (zk_V hz (rm := (zRm 0 0 0 0)) (As := [.int (-1000001)]) (rest := []) 1 q2032 q2034 qs35 q95 q2035 (by decide +kernel) ⟨Nat.le_of_ble_eq_true rfl, Nat.le_of_ble_eq_true rfl⟩ ⟨Nat.le_of_ble_eq_true rfl, Nat.le_of_ble_eq_true rfl⟩ (zRecv (q := (RX10, TX10, 29)) hz (zAt.mt 0 0 rfl rfl) rfl) rfl rfl (Nat.le_of_ble_eq_true rfl) dX10_goes_27) (mM_finding ad iv er (-1000001) 1 (by decide) (by decide)) [0, 2] rfl (by decide) rfl rfl ?_
    exact z_iret hQ hz hr hlk dX10_goes_30 (by
      have e9 : sGoes g wh room t = (1, 0, h) := by simp only [sGoes]; rw [hh, if_neg c1]
      rw [e9]; exact ⟨congrArg (fun z => some (Value.int z)) rE1, _, _, rfl, ⟨rfl, rfl⟩⟩)
