set_option maxRecDepth 100000
set_option maxHeartbeats 1000000 in
theorem mM_cross {G : zG} (ad : Nat → Nat) (iv g er : Nat → Int32) (what : Int32) (n1 n2 : Nat) (hn1 : g 11 = nI n1) (hn2 : g 12 = nI n2) (h1 : n1 ≤ 10) (h2 : n2 ≤ 10) : zMet G yX10_cross (ws_ yX10_cross cX10_cross 8 (some .int)) (zRm 2 0 0 60) [.ref (ad 99), .int what] [zO (ad 99) 10 (mFs ad iv), zI (G.2.2.1 0) (ad 0) 602 g, zI (G.2.2.1 0) (ad 4) 6 er] (fun v9 b9 => v9 = some (.int (rOf (sCross g what))) ∧ b9 = [zO (ad 99) 10 (mFs ad iv), zI (G.2.2.1 0) (ad 0) 602 ((sCross g what).2.2), zI (G.2.2.1 0) (ad 4) 6 (eOf er (sCross g what))]) := by
  refine zMet.of (by decide +kernel) (Nat.le_of_ble_eq_true rfl) ?_
  intro p e s m args below meth c A hz hA hr hlk hnm9 Q hQ
  refine z_lv (lv' := [(0, .ref (ad 99)), (1, .int what)]) [0, 1] rfl ?_
  have tn1 : tN (nI n1) = n1 := nI_clamp (by omega)
  have tn2 : tN (nI n2) = n2 := nI_clamp (by omega)
  refine z_iload_n hz dX10_cross_0 1 rfl rfl ?_
  refine z_iconst hz 0 dX10_cross_1 ki_0 ?_
  refine z_iconst hz 1 dX10_cross_2 ki_1 ?_
  refine z_callRD (st2 := [.int (zB (inR what 0 1))]) hz zKp.mt (zk_S hz (rm := (zRm 0 0 0 0)) (As := [.int what, .int 0, .int 1]) (rest := []) 3 q2023 q2024 q95 q2025 (by decide +kernel) ⟨Nat.le_of_ble_eq_true rfl, Nat.le_of_ble_eq_true rfl⟩ ⟨Nat.le_of_ble_eq_true rfl, Nat.le_of_ble_eq_true rfl⟩ rfl rfl (Nat.le_of_ble_eq_true rfl) dX10_cross_3) (mM_within what 0 1) (fun _ _ _ => zP0) rfl ?_
  refine z_ifB_ne hz 16 dX10_cross_6 (by decide) (fun c1 => ?_) (fun c1 => ?_)
  · refine z_ldc hz q2271 dX10_cross_16 ?_
    refine z_istore_n (lv' := [(0, .ref (ad 99)), (1, .int what), (2, .int 1000000)]) hz [1, 2, 0] dX10_cross_18 rfl (by decide) rfl ?_
    refine z_iconst hz 0 dX10_cross_19 ki_0 ?_
    refine z_istore_n (lv' := [(0, .ref (ad 99)), (1, .int what), (2, .int 1000000), (3, .int 0)]) hz [1, 2, 3, 0] dX10_cross_20 rfl (by decide) rfl ?_
    refine z_sipush hz 224 dX10_cross_21 ks_224 ?_
    refine z_istore (lv' := [(0, .ref (ad 99)), (1, .int what), (2, .int 1000000), (3, .int 0), (4, .int 224)]) hz [1, 2, 3, 4, 0] dX10_cross_24 (by decide) rfl ?_
    have lp_26 : ∀ (n9 : Nat) (a : Nat) (x : Nat) (fi : Int32) (pl : Int32), a ≤ n1 → x = 224 + 3 * a → fi = (crA g n2 a).1 → pl = (crA g n2 a).2 → n1 - a < n9 → zW p G.1 e (zRm 2 0 0 60) s m args below meth c 8 Q 0 0 (zΦ G A s [zO (ad 99) 10 (mFs ad iv), zI (G.2.2.1 0) (ad 0) 602 g, zI (G.2.2.1 0) (ad 4) 6 er]) 26 [(0, .ref (ad 99)), (1, .int what), (2, .int fi), (3, .int pl), (4, .int (nI x))] [] := by
      intro n9
      induction n9 with
      | zero => intro _ _ _ _ _ _ _ _ hm; exact absurd hm (Nat.not_lt_zero _)
      | succ n9 ih_26 =>
        intro a x fi pl ha hx hf hp hm_26
        refine z_iload hz dX10_cross_26 4 rfl ?_
        refine z_sipush hz 224 dX10_cross_28 ks_224 ?_
        refine z_iconst hz 3 dX10_cross_31 ki_3 ?_
        refine z_aload_n hz dX10_cross_32 0 rfl rfl ?_
        refine z_get (C := RX10) (T := TX10) (N := 29) hz in_X10 (zAt.mt 0 0 rfl rfl) rfl 0 (by decide) q1929 (fun _ h9 => h9) rfl dX10_cross_33 ?_
        refine z_bipush hz 11 dX10_cross_36 kb_11 ?_
        refine z_iald hz (zAt.mt 1 0 rfl rfl) kn_11 (by decide) (by decide) dX10_cross_38 ?_
        refine z_top hn1 ?_
        refine z_imulN hz kn_3 rfl dX10_cross_39 ?_
        refine z_iaddN hz kn_224 rfl dX10_cross_40 ?_
        refine z_icmpN_ge hz rfl rfl (by omega) (by omega) 200 dX10_cross_41 (by decide) (fun c2 => ?_) (fun c2 => ?_)
        · refine z_iload_n hz dX10_cross_200 2 rfl rfl ?_
          refine z_ldc hz q2271 dX10_cross_201 ?_
          refine z_icmp_ne hz 215 dX10_cross_203 (by decide) (fun c3 => ?_) (fun c3 => ?_)
          · refine z_iload_n hz dX10_cross_215 1 rfl rfl ?_
            refine z_if_ne hz 223 dX10_cross_216 (by decide) (fun c4 => ?_) (fun c4 => ?_)
            · refine z_iload_n hz dX10_cross_223 3 rfl rfl ?_
              exact z_iret hQ hz hr hlk dX10_cross_224 (by
                have e9 : sCross g what = (0, pl, g) := by simp only [sCross]; rw [if_pos c1, hn1, hn2, tn1, tn2, show n1 = a by omega, ← hf, ← hp, if_neg c3, if_neg c4]
                rw [e9]; exact ⟨congrArg (fun z => some (Value.int z)) rOf_0.symm, rfl⟩)
            · refine z_iload_n hz dX10_cross_219 2 rfl rfl ?_
              refine z_goto hz 224 dX10_cross_220 (by decide) ?_
              exact z_iret hQ hz hr hlk dX10_cross_224 (by
                have e9 : sCross g what = (0, fi, g) := by simp only [sCross]; rw [if_pos c1, hn1, hn2, tn1, tn2, show n1 = a by omega, ← hf, ← hp, if_neg c3, if_pos c4]
                rw [e9]; exact ⟨congrArg (fun z => some (Value.int z)) rOf_0.symm, rfl⟩)
          · refine z_aload_n hz dX10_cross_206 0 rfl rfl ?_
            refine z_ldc hz q2133 dX10_cross_207 ?_
            refine z_callD (bs2 := [zO (ad 99) 10 (mFs ad iv), zI (G.2.2.1 0) (ad 0) 602 g, zI (G.2.2.1 0) (ad 4) 6 (upd er 2 (er 2 + 1))]) (st2 := [.int (-1000002)]) hz hA (zk_V hz (rm := (zRm 0 0 0 0)) (As := [.int (-1000002)]) (rest := []) 1 q2032 q2034 qs35 q95 q2035 (by decide +kernel) ⟨Nat.le_of_ble_eq_true rfl, Nat.le_of_ble_eq_true rfl⟩ ⟨Nat.le_of_ble_eq_true rfl, Nat.le_of_ble_eq_true rfl⟩ (zRecv (q := (RX10, TX10, 29)) hz (zAt.mt 0 0 rfl rfl) rfl) rfl rfl (Nat.le_of_ble_eq_true rfl) dX10_cross_209) (mM_finding ad iv er (-1000002) 2 (by decide) (by decide)) [0, 2] rfl (by decide) rfl rfl ?_
            refine z_goto hz 224 dX10_cross_212 (by decide) ?_
            exact z_iret hQ hz hr hlk dX10_cross_224 (by
              have e9 : sCross g what = (2, 0, g) := by simp only [sCross]; rw [if_pos c1, hn1, hn2, tn1, tn2, show n1 = a by omega, ← hf, ← hp, if_pos c3]
              rw [e9]; exact ⟨congrArg (fun z => some (Value.int z)) rE2, rfl⟩)
        · refine z_sipush hz 254 dX10_cross_44 ks_254 ?_
          refine z_istore (lv' := [(0, .ref (ad 99)), (1, .int what), (2, .int fi), (3, .int pl), (4, .int (nI x)), (5, .int 254)]) hz [1, 2, 3, 4, 5, 0] dX10_cross_47 (by decide) rfl ?_
          have lp_49 : ∀ (n9 : Nat) (b : Nat) (y : Nat) (fi2 : Int32) (pl2 : Int32), b ≤ n2 → y = 254 + 3 * b → fi2 = (crB g a (crA g n2 a) b).1 → pl2 = (crB g a (crA g n2 a) b).2 → n2 - b < n9 → zW p G.1 e (zRm 2 0 0 60) s m args below meth c 8 Q 0 0 (zΦ G A s [zO (ad 99) 10 (mFs ad iv), zI (G.2.2.1 0) (ad 0) 602 g, zI (G.2.2.1 0) (ad 4) 6 er]) 49 [(0, .ref (ad 99)), (1, .int what), (2, .int fi2), (3, .int pl2), (4, .int (nI x)), (5, .int (nI y))] [] := by
            intro n9
            induction n9 with
            | zero => intro _ _ _ _ _ _ _ _ hm; exact absurd hm (Nat.not_lt_zero _)
            | succ n9 ih_49 =>
              intro b y fi2 pl2 hb hy hf2 hp2 hm_49
              refine z_iload hz dX10_cross_49 5 rfl ?_
              refine z_sipush hz 224 dX10_cross_51 ks_224 ?_
              refine z_iconst hz 3 dX10_cross_54 ki_3 ?_
              refine z_bipush hz 10 dX10_cross_55 kb_10 ?_
              refine z_aload_n hz dX10_cross_57 0 rfl rfl ?_
              refine z_get (C := RX10) (T := TX10) (N := 29) hz in_X10 (zAt.mt 0 0 rfl rfl) rfl 0 (by decide) q1929 (fun _ h9 => h9) rfl dX10_cross_58 ?_
              refine z_bipush hz 12 dX10_cross_61 kb_12 ?_
              refine z_iald hz (zAt.mt 1 0 rfl rfl) kn_12 (by decide) (by decide) dX10_cross_63 ?_
              refine z_top hn2 ?_
              refine z_iaddN hz kn_10 rfl dX10_cross_64 ?_
              refine z_imulN hz kn_3 rfl dX10_cross_65 ?_
              refine z_iaddN hz kn_224 rfl dX10_cross_66 ?_
              refine z_icmpN_ge hz rfl rfl (by omega) (by omega) 194 dX10_cross_67 (by decide) (fun c5 => ?_) (fun c5 => ?_)
              · refine z_iinc (lv' := [(0, .ref (ad 99)), (1, .int what), (2, .int fi2), (3, .int pl2), (4, .int (nI (x + 3))), (5, .int (nI y))]) hz (nI (x + 3)) 4 [1, 2, 3, 4, 0, 5] dX10_cross_194 rfl (by rw [ki_3, kn_3]; exact nI_add _ _) (by decide) rfl ?_
                refine z_goto hz 26 dX10_cross_197 (by decide) ?_
                refine z_lv [0, 1, 2, 3, 4] rfl ?_
                exact ih_26 (a + 1) (x + 3) fi2 pl2 (by omega) (by omega) (by simp only [crA]; rw [hf2, show b = n2 by omega]) (by simp only [crA]; rw [hp2, show b = n2 by omega]) (by omega)
              · refine z_aload_n hz dX10_cross_70 0 rfl rfl ?_
                refine z_get (C := RX10) (T := TX10) (N := 29) hz in_X10 (zAt.mt 0 0 rfl rfl) rfl 0 (by decide) q1929 (fun _ h9 => h9) rfl dX10_cross_71 ?_
                refine z_iload hz dX10_cross_74 4 rfl ?_
                refine z_iald hz (zAt.mt 1 0 rfl rfl) rfl (by omega) (by decide) dX10_cross_76 ?_
                refine z_aload_n hz dX10_cross_77 0 rfl rfl ?_
                refine z_get (C := RX10) (T := TX10) (N := 29) hz in_X10 (zAt.mt 0 0 rfl rfl) rfl 0 (by decide) q1929 (fun _ h9 => h9) rfl dX10_cross_78 ?_
                refine z_iload hz dX10_cross_81 5 rfl ?_
                refine z_iald hz (zAt.mt 1 0 rfl rfl) rfl (by omega) (by decide) dX10_cross_83 ?_
                refine z_mmax hz q2113 (Nat.le_of_ble_eq_true rfl) (Nat.le_of_ble_eq_true rfl) ⟨Nat.le_of_ble_eq_true rfl, Nat.le_of_ble_eq_true rfl⟩ dX10_cross_84 ?_
                refine z_istore (lv' := [(0, .ref (ad 99)), (1, .int what), (2, .int fi2), (3, .int pl2), (4, .int (nI x)), (5, .int (nI y)), (6, .int (maxI (g x) (g y)))]) hz [1, 2, 3, 4, 5, 6, 0] dX10_cross_87 (by decide) rfl ?_
                refine z_aload_n hz dX10_cross_89 0 rfl rfl ?_
                refine z_get (C := RX10) (T := TX10) (N := 29) hz in_X10 (zAt.mt 0 0 rfl rfl) rfl 0 (by decide) q1929 (fun _ h9 => h9) rfl dX10_cross_90 ?_
                refine z_iload hz dX10_cross_93 4 rfl ?_
                refine z_iconst hz 2 dX10_cross_95 ki_2 ?_
                refine z_iaddN hz rfl kn_2 dX10_cross_96 ?_
                refine z_iald hz (zAt.mt 1 0 rfl rfl) rfl (by omega) (by decide) dX10_cross_97 ?_
                refine z_aload_n hz dX10_cross_98 0 rfl rfl ?_
                refine z_get (C := RX10) (T := TX10) (N := 29) hz in_X10 (zAt.mt 0 0 rfl rfl) rfl 0 (by decide) q1929 (fun _ h9 => h9) rfl dX10_cross_99 ?_
                refine z_iload hz dX10_cross_102 5 rfl ?_
                refine z_iconst hz 2 dX10_cross_104 ki_2 ?_
                refine z_iaddN hz rfl kn_2 dX10_cross_105 ?_
                refine z_iald hz (zAt.mt 1 0 rfl rfl) rfl (by omega) (by decide) dX10_cross_106 ?_
                refine z_icmp_ne hz 142 dX10_cross_107 (by decide) (fun c6 => ?_) (fun c6 => ?_)
                · refine z_iconst hz 0 dX10_cross_142 ki_0 ?_
                  refine z_istore (lv' := [(0, .ref (ad 99)), (1, .int what), (2, .int fi2), (3, .int pl2), (4, .int (nI x)), (5, .int (nI y)), (6, .int (maxI (g x) (g y))), (7, .int 0)]) hz [1, 2, 3, 4, 5, 6, 7, 0] dX10_cross_143 (by decide) rfl ?_
                  refine z_iload hz dX10_cross_145 7 rfl ?_
                  refine z_if_eqT hz 188 dX10_cross_147 (by decide) (by decide) ?_
                  refine z_iinc (lv' := [(0, .ref (ad 99)), (1, .int what), (2, .int fi2), (3, .int pl2), (4, .int (nI x)), (5, .int (nI (y + 3))), (6, .int (maxI (g x) (g y))), (7, .int 0)]) hz (nI (y + 3)) 5 [1, 2, 3, 4, 5, 0, 6, 7] dX10_cross_188 rfl (by rw [ki_3, kn_3]; exact nI_add _ _) (by decide) rfl ?_
                  refine z_goto hz 49 dX10_cross_191 (by decide) ?_
                  refine z_lv [0, 1, 2, 3, 4, 5] rfl ?_
                  exact ih_49 (b + 1) (y + 3) fi2 pl2 (by omega) (by omega) (by simp only [crB]; rw [← hf2, ← hp2, ← hx, ← hy, if_neg (fun h9 => c6 h9.1.1), ← hf2]) (by simp only [crB]; rw [← hf2, ← hp2, ← hx, ← hy, if_neg (fun h9 => c6 h9.1.1), ← hp2]) (by omega)
                · refine z_iload hz dX10_cross_110 6 rfl ?_
                  refine z_aload_n hz dX10_cross_112 0 rfl rfl ?_
                  refine z_get (C := RX10) (T := TX10) (N := 29) hz in_X10 (zAt.mt 0 0 rfl rfl) rfl 0 (by decide) q1929 (fun _ h9 => h9) rfl dX10_cross_113 ?_
                  refine z_iload hz dX10_cross_116 4 rfl ?_
                  refine z_iconst hz 1 dX10_cross_118 ki_1 ?_
                  refine z_iaddN hz rfl kn_1 dX10_cross_119 ?_
                  refine z_iald hz (zAt.mt 1 0 rfl rfl) rfl (by omega) (by decide) dX10_cross_120 ?_
                  refine z_icmp_gt hz 142 dX10_cross_121 (by decide) (fun c7 => ?_) (fun c7 => ?_)
                  · refine z_iconst hz 0 dX10_cross_142 ki_0 ?_
                    refine z_istore (lv' := [(0, .ref (ad 99)), (1, .int what), (2, .int fi2), (3, .int pl2), (4, .int (nI x)), (5, .int (nI y)), (6, .int (maxI (g x) (g y))), (7, .int 0)]) hz [1, 2, 3, 4, 5, 6, 7, 0] dX10_cross_143 (by decide) rfl ?_
                    refine z_iload hz dX10_cross_145 7 rfl ?_
                    refine z_if_eqT hz 188 dX10_cross_147 (by decide) (by decide) ?_
                    refine z_iinc (lv' := [(0, .ref (ad 99)), (1, .int what), (2, .int fi2), (3, .int pl2), (4, .int (nI x)), (5, .int (nI (y + 3))), (6, .int (maxI (g x) (g y))), (7, .int 0)]) hz (nI (y + 3)) 5 [1, 2, 3, 4, 5, 0, 6, 7] dX10_cross_188 rfl (by rw [ki_3, kn_3]; exact nI_add _ _) (by decide) rfl ?_
                    refine z_goto hz 49 dX10_cross_191 (by decide) ?_
                    refine z_lv [0, 1, 2, 3, 4, 5] rfl ?_
                    exact ih_49 (b + 1) (y + 3) fi2 pl2 (by omega) (by omega) (by simp only [crB]; rw [← hf2, ← hp2, ← hx, ← hy, if_neg (fun h9 => Int32.not_le.mpr c7 h9.1.2.1), ← hf2]) (by simp only [crB]; rw [← hf2, ← hp2, ← hx, ← hy, if_neg (fun h9 => Int32.not_le.mpr c7 h9.1.2.1), ← hp2]) (by omega)
                  · refine z_iload hz dX10_cross_124 6 rfl ?_
                    refine z_aload_n hz dX10_cross_126 0 rfl rfl ?_
                    refine z_get (C := RX10) (T := TX10) (N := 29) hz in_X10 (zAt.mt 0 0 rfl rfl) rfl 0 (by decide) q1929 (fun _ h9 => h9) rfl dX10_cross_127 ?_
                    refine z_iload hz dX10_cross_130 5 rfl ?_
                    refine z_iconst hz 1 dX10_cross_132 ki_1 ?_
                    refine z_iaddN hz rfl kn_1 dX10_cross_133 ?_
                    refine z_iald hz (zAt.mt 1 0 rfl rfl) rfl (by omega) (by decide) dX10_cross_134 ?_
                    refine z_icmp_gt hz 142 dX10_cross_135 (by decide) (fun c8 => ?_) (fun c8 => ?_)
                    · refine z_iconst hz 0 dX10_cross_142 ki_0 ?_
                      refine z_istore (lv' := [(0, .ref (ad 99)), (1, .int what), (2, .int fi2), (3, .int pl2), (4, .int (nI x)), (5, .int (nI y)), (6, .int (maxI (g x) (g y))), (7, .int 0)]) hz [1, 2, 3, 4, 5, 6, 7, 0] dX10_cross_143 (by decide) rfl ?_
                      refine z_iload hz dX10_cross_145 7 rfl ?_
                      refine z_if_eqT hz 188 dX10_cross_147 (by decide) (by decide) ?_
                      refine z_iinc (lv' := [(0, .ref (ad 99)), (1, .int what), (2, .int fi2), (3, .int pl2), (4, .int (nI x)), (5, .int (nI (y + 3))), (6, .int (maxI (g x) (g y))), (7, .int 0)]) hz (nI (y + 3)) 5 [1, 2, 3, 4, 5, 0, 6, 7] dX10_cross_188 rfl (by rw [ki_3, kn_3]; exact nI_add _ _) (by decide) rfl ?_
                      refine z_goto hz 49 dX10_cross_191 (by decide) ?_
                      refine z_lv [0, 1, 2, 3, 4, 5] rfl ?_
                      exact ih_49 (b + 1) (y + 3) fi2 pl2 (by omega) (by omega) (by simp only [crB]; rw [← hf2, ← hp2, ← hx, ← hy, if_neg (fun h9 => Int32.not_le.mpr c8 h9.1.2.2), ← hf2]) (by simp only [crB]; rw [← hf2, ← hp2, ← hx, ← hy, if_neg (fun h9 => Int32.not_le.mpr c8 h9.1.2.2), ← hp2]) (by omega)
                    · refine z_iconst hz 1 dX10_cross_138 ki_1 ?_
                      refine z_goto hz 143 dX10_cross_139 (by decide) ?_
                      refine z_istore (lv' := [(0, .ref (ad 99)), (1, .int what), (2, .int fi2), (3, .int pl2), (4, .int (nI x)), (5, .int (nI y)), (6, .int (maxI (g x) (g y))), (7, .int 1)]) hz [1, 2, 3, 4, 5, 6, 7, 0] dX10_cross_143 (by decide) rfl ?_
                      refine z_iload hz dX10_cross_145 7 rfl ?_
                      refine z_if_eqF hz 188 dX10_cross_147 (by decide) (by decide) ?_
                      refine z_iload hz dX10_cross_150 6 rfl ?_
                      refine z_iload_n hz dX10_cross_152 2 rfl rfl ?_
                      refine z_icmp_lt hz 175 dX10_cross_153 (by decide) (fun c9 => ?_) (fun c9 => ?_)
                      · refine z_iload hz dX10_cross_175 6 rfl ?_
                        refine z_istore_n (lv' := [(0, .ref (ad 99)), (1, .int what), (2, .int (maxI (g x) (g y))), (3, .int pl2), (4, .int (nI x)), (5, .int (nI y)), (6, .int (maxI (g x) (g y))), (7, .int 1)]) hz [1, 2, 0, 3, 4, 5, 6, 7] dX10_cross_177 rfl (by decide) rfl ?_
                        refine z_aload_n hz dX10_cross_178 0 rfl rfl ?_
                        refine z_get (C := RX10) (T := TX10) (N := 29) hz in_X10 (zAt.mt 0 0 rfl rfl) rfl 0 (by decide) q1929 (fun _ h9 => h9) rfl dX10_cross_179 ?_
                        refine z_iload hz dX10_cross_182 4 rfl ?_
                        refine z_iconst hz 2 dX10_cross_184 ki_2 ?_
                        refine z_iaddN hz rfl kn_2 dX10_cross_185 ?_
                        refine z_iald hz (zAt.mt 1 0 rfl rfl) rfl (by omega) (by decide) dX10_cross_186 ?_
                        refine z_istore_n (lv' := [(0, .ref (ad 99)), (1, .int what), (2, .int (maxI (g x) (g y))), (3, .int (g (x + 2))), (4, .int (nI x)), (5, .int (nI y)), (6, .int (maxI (g x) (g y))), (7, .int 1)]) hz [1, 2, 3, 0, 4, 5, 6, 7] dX10_cross_187 rfl (by decide) rfl ?_
                        refine z_iinc (lv' := [(0, .ref (ad 99)), (1, .int what), (2, .int (maxI (g x) (g y))), (3, .int (g (x + 2))), (4, .int (nI x)), (5, .int (nI (y + 3))), (6, .int (maxI (g x) (g y))), (7, .int 1)]) hz (nI (y + 3)) 5 [1, 2, 3, 4, 5, 0, 6, 7] dX10_cross_188 rfl (by rw [ki_3, kn_3]; exact nI_add _ _) (by decide) rfl ?_
                        refine z_goto hz 49 dX10_cross_191 (by decide) ?_
                        refine z_lv [0, 1, 2, 3, 4, 5] rfl ?_
                        exact ih_49 (b + 1) (y + 3) (maxI (g x) (g y)) (g (x + 2)) (by omega) (by omega) (by simp only [crB]; rw [← hf2, ← hp2, ← hx, ← hy, if_pos ⟨⟨c6, Int32.not_lt.mp c7, Int32.not_lt.mp c8⟩, Or.inl c9⟩]) (by simp only [crB]; rw [← hf2, ← hp2, ← hx, ← hy, if_pos ⟨⟨c6, Int32.not_lt.mp c7, Int32.not_lt.mp c8⟩, Or.inl c9⟩]) (by omega)
                      · refine z_iload hz dX10_cross_156 6 rfl ?_
                        refine z_iload_n hz dX10_cross_158 2 rfl rfl ?_
                        refine z_icmp_ne hz 188 dX10_cross_159 (by decide) (fun c10 => ?_) (fun c10 => ?_)
                        · refine z_iinc (lv' := [(0, .ref (ad 99)), (1, .int what), (2, .int fi2), (3, .int pl2), (4, .int (nI x)), (5, .int (nI (y + 3))), (6, .int (maxI (g x) (g y))), (7, .int 1)]) hz (nI (y + 3)) 5 [1, 2, 3, 4, 5, 0, 6, 7] dX10_cross_188 rfl (by rw [ki_3, kn_3]; exact nI_add _ _) (by decide) rfl ?_
                          refine z_goto hz 49 dX10_cross_191 (by decide) ?_
                          refine z_lv [0, 1, 2, 3, 4, 5] rfl ?_
                          exact ih_49 (b + 1) (y + 3) fi2 pl2 (by omega) (by omega) (by simp only [crB]; rw [← hf2, ← hp2, ← hx, ← hy, if_neg (fun h9 => h9.2.elim c9 (fun h8 => c10 h8.1)), ← hf2]) (by simp only [crB]; rw [← hf2, ← hp2, ← hx, ← hy, if_neg (fun h9 => h9.2.elim c9 (fun h8 => c10 h8.1)), ← hp2]) (by omega)
                        · refine z_aload_n hz dX10_cross_162 0 rfl rfl ?_
                          refine z_get (C := RX10) (T := TX10) (N := 29) hz in_X10 (zAt.mt 0 0 rfl rfl) rfl 0 (by decide) q1929 (fun _ h9 => h9) rfl dX10_cross_163 ?_
                          refine z_iload hz dX10_cross_166 4 rfl ?_
                          refine z_iconst hz 2 dX10_cross_168 ki_2 ?_
                          refine z_iaddN hz rfl kn_2 dX10_cross_169 ?_
                          refine z_iald hz (zAt.mt 1 0 rfl rfl) rfl (by omega) (by decide) dX10_cross_170 ?_
                          refine z_iload_n hz dX10_cross_171 3 rfl rfl ?_
                          refine z_icmp_ge hz 188 dX10_cross_172 (by decide) (fun c11 => ?_) (fun c11 => ?_)
                          · refine z_iinc (lv' := [(0, .ref (ad 99)), (1, .int what), (2, .int fi2), (3, .int pl2), (4, .int (nI x)), (5, .int (nI (y + 3))), (6, .int (maxI (g x) (g y))), (7, .int 1)]) hz (nI (y + 3)) 5 [1, 2, 3, 4, 5, 0, 6, 7] dX10_cross_188 rfl (by rw [ki_3, kn_3]; exact nI_add _ _) (by decide) rfl ?_
                            refine z_goto hz 49 dX10_cross_191 (by decide) ?_
                            refine z_lv [0, 1, 2, 3, 4, 5] rfl ?_
                            exact ih_49 (b + 1) (y + 3) fi2 pl2 (by omega) (by omega) (by simp only [crB]; rw [← hf2, ← hp2, ← hx, ← hy, if_neg (fun h9 => h9.2.elim c9 (fun h8 => (Int32.not_lt.mpr c11) h8.2)), ← hf2]) (by simp only [crB]; rw [← hf2, ← hp2, ← hx, ← hy, if_neg (fun h9 => h9.2.elim c9 (fun h8 => (Int32.not_lt.mpr c11) h8.2)), ← hp2]) (by omega)
                          · refine z_iload hz dX10_cross_175 6 rfl ?_
                            refine z_istore_n (lv' := [(0, .ref (ad 99)), (1, .int what), (2, .int (maxI (g x) (g y))), (3, .int pl2), (4, .int (nI x)), (5, .int (nI y)), (6, .int (maxI (g x) (g y))), (7, .int 1)]) hz [1, 2, 0, 3, 4, 5, 6, 7] dX10_cross_177 rfl (by decide) rfl ?_
                            refine z_aload_n hz dX10_cross_178 0 rfl rfl ?_
                            refine z_get (C := RX10) (T := TX10) (N := 29) hz in_X10 (zAt.mt 0 0 rfl rfl) rfl 0 (by decide) q1929 (fun _ h9 => h9) rfl dX10_cross_179 ?_
                            refine z_iload hz dX10_cross_182 4 rfl ?_
                            refine z_iconst hz 2 dX10_cross_184 ki_2 ?_
                            refine z_iaddN hz rfl kn_2 dX10_cross_185 ?_
                            refine z_iald hz (zAt.mt 1 0 rfl rfl) rfl (by omega) (by decide) dX10_cross_186 ?_
                            refine z_istore_n (lv' := [(0, .ref (ad 99)), (1, .int what), (2, .int (maxI (g x) (g y))), (3, .int (g (x + 2))), (4, .int (nI x)), (5, .int (nI y)), (6, .int (maxI (g x) (g y))), (7, .int 1)]) hz [1, 2, 3, 0, 4, 5, 6, 7] dX10_cross_187 rfl (by decide) rfl ?_
                            refine z_iinc (lv' := [(0, .ref (ad 99)), (1, .int what), (2, .int (maxI (g x) (g y))), (3, .int (g (x + 2))), (4, .int (nI x)), (5, .int (nI (y + 3))), (6, .int (maxI (g x) (g y))), (7, .int 1)]) hz (nI (y + 3)) 5 [1, 2, 3, 4, 5, 0, 6, 7] dX10_cross_188 rfl (by rw [ki_3, kn_3]; exact nI_add _ _) (by decide) rfl ?_
                            refine z_goto hz 49 dX10_cross_191 (by decide) ?_
                            refine z_lv [0, 1, 2, 3, 4, 5] rfl ?_
                            exact ih_49 (b + 1) (y + 3) (maxI (g x) (g y)) (g (x + 2)) (by omega) (by omega) (by simp only [crB]; rw [← hf2, ← hp2, ← hx, ← hy, if_pos ⟨⟨c6, Int32.not_lt.mp c7, Int32.not_lt.mp c8⟩, Or.inr ⟨c10, (Int32.not_le.mp c11)⟩⟩]) (by simp only [crB]; rw [← hf2, ← hp2, ← hx, ← hy, if_pos ⟨⟨c6, Int32.not_lt.mp c7, Int32.not_lt.mp c8⟩, Or.inr ⟨c10, (Int32.not_le.mp c11)⟩⟩]) (by omega)
          exact lp_49 ((n2 - 0) + 1) 0 254 fi pl (Nat.zero_le _) rfl hf hp (Nat.lt_succ_self _)
    exact lp_26 ((n1 - 0) + 1) 0 224 1000000 0 (Nat.zero_le _) rfl rfl rfl (Nat.lt_succ_self _)
  · refine z_aload_n hz dX10_cross_9 0 rfl rfl ?_
    refine z_ldc hz q2031 dX10_cross_10 ?_
    refine z_callD (bs2 := [zO (ad 99) 10 (mFs ad iv), zI (G.2.2.1 0) (ad 0) 602 g, zI (G.2.2.1 0) (ad 4) 6 (upd er 1 (er 1 + 1))]) (st2 := [.int (-1000001)]) hz hA (zk_V hz (rm := (zRm 0 0 0 0)) (As := [.int (-1000001)]) (rest := []) 1 q2032 q2034 qs35 q95 q2035 (by decide +kernel) ⟨Nat.le_of_ble_eq_true rfl, Nat.le_of_ble_eq_true rfl⟩ ⟨Nat.le_of_ble_eq_true rfl, Nat.le_of_ble_eq_true rfl⟩ (zRecv (q := (RX10, TX10, 29)) hz (zAt.mt 0 0 rfl rfl) rfl) rfl rfl (Nat.le_of_ble_eq_true rfl) dX10_cross_12) (mM_finding ad iv er (-1000001) 1 (by decide) (by decide)) [0, 2] rfl (by decide) rfl rfl ?_
    exact z_iret hQ hz hr hlk dX10_cross_15 (by
      have e9 : sCross g what = (1, 0, g) := by simp [sCross, inR, nI_clamp, c1]
      rw [e9]; exact ⟨congrArg (fun z => some (Value.int z)) rE1, rfl⟩)
set_option maxHeartbeats 1000000 in
theorem mM_mayBe {G : zG} (ad : Nat → Nat) (iv g : Nat → Int32) (nc : Nat) (hnc : g 5 = nI nc) (h10 : nc ≤ 10) : zRd G yX10_mayBe (ws_ yX10_mayBe cX10_mayBe 6 (some .int)) (zRm 1 0 0 30) [.ref (ad 99)] [(ad 99, .inr (10, mFs ad iv)), (ad 0, .inl (G.2.2.1 0, 602, .inl g))] (fun v9 => v9 = some (.int (mbF g nc))) := by
  refine zRd.of (by decide +kernel) (Nat.le_of_ble_eq_true rfl) ?_
  intro p e s m args below meth c hz hP hr hlk Q hQ
  refine z_lv (lv' := [(0, .ref (ad 99))]) [0] rfl ?_
  refine z_iconst hz 0 dX10_mayBe_0 ki_0 ?_
  refine z_istore_n (lv' := [(0, .ref (ad 99)), (1, .int 0)]) hz [1, 0] dX10_mayBe_1 rfl (by decide) rfl ?_
  refine z_iconst hz 0 dX10_mayBe_2 ki_0 ?_
  refine z_istore_n (lv' := [(0, .ref (ad 99)), (1, .int 0), (2, .int 0)]) hz [1, 2, 0] dX10_mayBe_3 rfl (by decide) rfl ?_
  have lp_4 : ∀ (n9 : Nat) (cz : Nat) (x : Int32), cz ≤ nc → x = mbF g cz → nc - cz < n9 → zW p G.1 e (zRm 1 0 0 30) s m args below meth c 6 Q 0 0 (zΨ s) 4 [(0, .ref (ad 99)), (1, .int x), (2, .int (nI cz))] [] := by
    intro n9
    induction n9 with
    | zero => intro _ _ _ _ hm; exact absurd hm (Nat.not_lt_zero _)
    | succ n9 ih_4 =>
      intro cz x hc hx hm_4
      refine z_iload_n hz dX10_mayBe_4 2 rfl rfl ?_
      refine z_aload_n hz dX10_mayBe_5 0 rfl rfl ?_
      refine z_get (C := RX10) (T := TX10) (N := 29) hz in_X10 (zAt.rd hP 0 rfl) rfl 0 (by decide) q1929 (fun _ h9 => h9) rfl dX10_mayBe_6 ?_
      refine z_iconst hz 5 dX10_mayBe_9 ki_5 ?_
      refine z_iald hz (zAt.rd hP 1 rfl) kn_5 (by decide) (by decide) dX10_mayBe_10 ?_
      refine z_top hnc ?_
      refine z_icmpN_ge hz rfl rfl (by omega) (by omega) 128 dX10_mayBe_11 (by decide) (fun c1 => ?_) (fun c1 => ?_)
      · refine z_iload_n hz dX10_mayBe_128 1 rfl rfl ?_
        exact zr_iret hQ hz hr hlk dX10_mayBe_129 (by rw [hx, show cz = nc by omega])
      · refine z_iconst hz 1 dX10_mayBe_14 ki_1 ?_
        refine z_istore_n (lv' := [(0, .ref (ad 99)), (1, .int x), (2, .int (nI cz)), (3, .int 1)]) hz [1, 2, 3, 0] dX10_mayBe_15 rfl (by decide) rfl ?_
        refine z_iconst hz 0 dX10_mayBe_16 ki_0 ?_
        refine z_istore (lv' := [(0, .ref (ad 99)), (1, .int x), (2, .int (nI cz)), (3, .int 1), (4, .int 0)]) hz [1, 2, 3, 4, 0] dX10_mayBe_17 (by decide) rfl ?_
        have lp_19 : ∀ (n9 : Nat) (v : Nat) (ok : Int32), v ≤ 12 → ok = mbV g cz v → 12 - v < n9 → zW p G.1 e (zRm 1 0 0 30) s m args below meth c 6 Q 0 0 (zΨ s) 19 [(0, .ref (ad 99)), (1, .int x), (2, .int (nI cz)), (3, .int ok), (4, .int (nI v))] [] := by
          intro n9
          induction n9 with
          | zero => intro _ _ _ _ hm; exact absurd hm (Nat.not_lt_zero _)
          | succ n9 ih_19 =>
            intro v ok hv hok hm_19
            refine z_iload hz dX10_mayBe_19 4 rfl ?_
            refine z_bipush hz 12 dX10_mayBe_21 kb_12 ?_
            refine z_icmpN_ge hz rfl kn_12 (by omega) (by decide) 108 dX10_mayBe_23 (by decide) (fun c2 => ?_) (fun c2 => ?_)
            · refine z_iload_n hz dX10_mayBe_108 1 rfl rfl ?_
              refine z_iload_n hz dX10_mayBe_109 3 rfl rfl ?_
              refine z_if_eq hz 119 dX10_mayBe_110 (by decide) (fun c3 => ?_) (fun c3 => ?_)
              · refine z_iconst hz 0 dX10_mayBe_119 ki_0 ?_
                refine z_ior hz dX10_mayBe_120 ?_
                refine z_istore_n (lv' := [(0, .ref (ad 99)), (1, .int (x ||| 0)), (2, .int (nI cz)), (3, .int ok), (4, .int (nI v))]) hz [1, 0, 2, 3, 4] dX10_mayBe_121 rfl (by decide) rfl ?_
                refine z_iinc (lv' := [(0, .ref (ad 99)), (1, .int (x ||| 0)), (2, .int (nI (cz + 1))), (3, .int ok), (4, .int (nI v))]) hz (nI (cz + 1)) 2 [1, 2, 0, 3, 4] dX10_mayBe_122 rfl (nI_1 _) (by decide) rfl ?_
                refine z_goto hz 4 dX10_mayBe_125 (by decide) ?_
                refine z_lv [0, 1, 2] rfl ?_
                exact ih_4 (cz + 1) (x ||| 0) (by omega) (by simp only [mbF]; rw [← hx, ← show v = 12 by omega, ← hok, if_neg (fun h9 => h9 c3)]) (by omega)
              · refine z_iconst hz 1 dX10_mayBe_113 ki_1 ?_
                refine z_iload_n hz dX10_mayBe_114 2 rfl rfl ?_
                refine z_ishl hz dX10_mayBe_115 ?_
                refine z_goto hz 120 dX10_mayBe_116 (by decide) ?_
                refine z_ior hz dX10_mayBe_120 ?_
                refine z_istore_n (lv' := [(0, .ref (ad 99)), (1, .int (x ||| (1 <<< ((nI cz) &&& 31)))), (2, .int (nI cz)), (3, .int ok), (4, .int (nI v))]) hz [1, 0, 2, 3, 4] dX10_mayBe_121 rfl (by decide) rfl ?_
                refine z_iinc (lv' := [(0, .ref (ad 99)), (1, .int (x ||| (1 <<< ((nI cz) &&& 31)))), (2, .int (nI (cz + 1))), (3, .int ok), (4, .int (nI v))]) hz (nI (cz + 1)) 2 [1, 2, 0, 3, 4] dX10_mayBe_122 rfl (nI_1 _) (by decide) rfl ?_
                refine z_goto hz 4 dX10_mayBe_125 (by decide) ?_
                refine z_lv [0, 1, 2] rfl ?_
                exact ih_4 (cz + 1) (x ||| (1 <<< ((nI cz) &&& 31))) (by omega) (by simp only [mbF]; rw [← hx, ← show v = 12 by omega, ← hok, if_pos c3]) (by omega)
            · refine z_aload_n hz dX10_mayBe_26 0 rfl rfl ?_
              refine z_get (C := RX10) (T := TX10) (N := 29) hz in_X10 (zAt.rd hP 0 rfl) rfl 0 (by decide) q1929 (fun _ h9 => h9) rfl dX10_mayBe_27 ?_
              refine z_sipush hz 312 dX10_mayBe_30 ks_312 ?_
              refine z_iload hz dX10_mayBe_33 4 rfl ?_
              refine z_iaddN hz kn_312 rfl dX10_mayBe_35 ?_
              refine z_iald hz (zAt.rd hP 1 rfl) rfl (by omega) (by decide) dX10_mayBe_36 ?_
              refine z_istore (lv' := [(0, .ref (ad 99)), (1, .int x), (2, .int (nI cz)), (3, .int ok), (4, .int (nI v)), (5, .int (g (312 + v)))]) hz [1, 2, 3, 4, 5, 0] dX10_mayBe_37 (by decide) rfl ?_
              refine z_iload_n hz dX10_mayBe_39 3 rfl rfl ?_
              refine z_if_eq hz 100 dX10_mayBe_40 (by decide) (fun c4 => ?_) (fun c4 => ?_)
              · refine z_iconst hz 0 dX10_mayBe_100 ki_0 ?_
                refine z_istore_n (lv' := [(0, .ref (ad 99)), (1, .int x), (2, .int (nI cz)), (3, .int 0), (4, .int (nI v)), (5, .int (g (312 + v)))]) hz [1, 2, 3, 0, 4, 5] dX10_mayBe_101 rfl (by decide) rfl ?_
                refine z_iinc (lv' := [(0, .ref (ad 99)), (1, .int x), (2, .int (nI cz)), (3, .int 0), (4, .int (nI (v + 1))), (5, .int (g (312 + v)))]) hz (nI (v + 1)) 4 [1, 2, 3, 4, 0, 5] dX10_mayBe_102 rfl (nI_1 _) (by decide) rfl ?_
                refine z_goto hz 19 dX10_mayBe_105 (by decide) ?_
                refine z_lv [0, 1, 2, 3, 4] rfl ?_
                exact ih_19 (v + 1) 0 (by omega) (by simp only [mbV]; rw [← hok, if_neg (fun h9 => h9.1 c4)]) (by omega)
              · refine z_iload hz dX10_mayBe_43 5 rfl ?_
                refine z_iconst hz 1 dX10_mayBe_45 ki_1 ?_
                refine z_icmp_ne hz 71 dX10_mayBe_46 (by decide) (fun c5 => ?_) (fun c5 => ?_)
                · refine z_iload hz dX10_mayBe_71 5 rfl ?_
                  refine z_if_ne hz 96 dX10_mayBe_73 (by decide) (fun c6 => ?_) (fun c6 => ?_)
                  · refine z_iconst hz 1 dX10_mayBe_96 ki_1 ?_
                    refine z_goto hz 101 dX10_mayBe_97 (by decide) ?_
                    refine z_istore_n (lv' := [(0, .ref (ad 99)), (1, .int x), (2, .int (nI cz)), (3, .int 1), (4, .int (nI v)), (5, .int (g (312 + v)))]) hz [1, 2, 3, 0, 4, 5] dX10_mayBe_101 rfl (by decide) rfl ?_
                    refine z_iinc (lv' := [(0, .ref (ad 99)), (1, .int x), (2, .int (nI cz)), (3, .int 1), (4, .int (nI (v + 1))), (5, .int (g (312 + v)))]) hz (nI (v + 1)) 4 [1, 2, 3, 4, 0, 5] dX10_mayBe_102 rfl (nI_1 _) (by decide) rfl ?_
                    refine z_goto hz 19 dX10_mayBe_105 (by decide) ?_
                    refine z_lv [0, 1, 2, 3, 4] rfl ?_
                    exact ih_19 (v + 1) 1 (by omega) (by simp only [mbV]; rw [← hok, if_pos ⟨c4, fun h8 => c5 h8.1, fun h8 => c6 h8.1⟩]) (by omega)
                  · refine z_aload_n hz dX10_mayBe_76 0 rfl rfl ?_
                    refine z_get (C := RX10) (T := TX10) (N := 29) hz in_X10 (zAt.rd hP 0 rfl) rfl 0 (by decide) q1929 (fun _ h9 => h9) rfl dX10_mayBe_77 ?_
                    refine z_sipush hz 292 dX10_mayBe_80 ks_292 ?_
                    refine z_iconst hz 2 dX10_mayBe_83 ki_2 ?_
                    refine z_iload_n hz dX10_mayBe_84 2 rfl rfl ?_
                    refine z_imulN hz kn_2 rfl dX10_mayBe_85 ?_
                    refine z_iaddN hz kn_292 rfl dX10_mayBe_86 ?_
                    refine z_iald hz (zAt.rd hP 1 rfl) rfl (by omega) (by decide) dX10_mayBe_87 ?_
                    refine z_iload hz dX10_mayBe_88 4 rfl ?_
                    refine z_callRD (st2 := [.int (zB (hasB (g (292 + (2 * cz))) (nI v)))]) hz zKp.rd (zk_S hz (rm := (zRm 0 0 0 0)) (As := [.int (g (292 + (2 * cz))), .int (nI v)]) (rest := []) 2 q2272 q2273 q95 q2274 (by decide +kernel) ⟨Nat.le_of_ble_eq_true rfl, Nat.le_of_ble_eq_true rfl⟩ ⟨Nat.le_of_ble_eq_true rfl, Nat.le_of_ble_eq_true rfl⟩ rfl rfl (Nat.le_of_ble_eq_true rfl) dX10_mayBe_90) (mM_has (g (292 + (2 * cz))) (nI v)) (fun _ _ _ => zP0) rfl ?_
                    refine z_ifB_ne hz 100 dX10_mayBe_93 (by decide) (fun c7 => ?_) (fun c7 => ?_)
                    · refine z_iconst hz 0 dX10_mayBe_100 ki_0 ?_
                      refine z_istore_n (lv' := [(0, .ref (ad 99)), (1, .int x), (2, .int (nI cz)), (3, .int 0), (4, .int (nI v)), (5, .int (g (312 + v)))]) hz [1, 2, 3, 0, 4, 5] dX10_mayBe_101 rfl (by decide) rfl ?_
                      refine z_iinc (lv' := [(0, .ref (ad 99)), (1, .int x), (2, .int (nI cz)), (3, .int 0), (4, .int (nI (v + 1))), (5, .int (g (312 + v)))]) hz (nI (v + 1)) 4 [1, 2, 3, 4, 0, 5] dX10_mayBe_102 rfl (nI_1 _) (by decide) rfl ?_
                      refine z_goto hz 19 dX10_mayBe_105 (by decide) ?_
                      refine z_lv [0, 1, 2, 3, 4] rfl ?_
                      exact ih_19 (v + 1) 0 (by omega) (by simp only [mbV]; rw [← hok, if_neg (fun h9 => h9.2.2 ⟨c6, c7⟩)]) (by omega)
                    · refine z_iconst hz 1 dX10_mayBe_96 ki_1 ?_
                      refine z_goto hz 101 dX10_mayBe_97 (by decide) ?_
                      refine z_istore_n (lv' := [(0, .ref (ad 99)), (1, .int x), (2, .int (nI cz)), (3, .int 1), (4, .int (nI v)), (5, .int (g (312 + v)))]) hz [1, 2, 3, 0, 4, 5] dX10_mayBe_101 rfl (by decide) rfl ?_
                      refine z_iinc (lv' := [(0, .ref (ad 99)), (1, .int x), (2, .int (nI cz)), (3, .int 1), (4, .int (nI (v + 1))), (5, .int (g (312 + v)))]) hz (nI (v + 1)) 4 [1, 2, 3, 4, 0, 5] dX10_mayBe_102 rfl (nI_1 _) (by decide) rfl ?_
                      refine z_goto hz 19 dX10_mayBe_105 (by decide) ?_
                      refine z_lv [0, 1, 2, 3, 4] rfl ?_
                      exact ih_19 (v + 1) 1 (by omega) (by simp only [mbV]; rw [← hok, if_pos ⟨c4, fun h8 => c5 h8.1, fun h8 => c7 h8.2⟩]) (by omega)
                · refine z_aload_n hz dX10_mayBe_49 0 rfl rfl ?_
                  refine z_get (C := RX10) (T := TX10) (N := 29) hz in_X10 (zAt.rd hP 0 rfl) rfl 0 (by decide) q1929 (fun _ h9 => h9) rfl dX10_mayBe_50 ?_
                  refine z_sipush hz 292 dX10_mayBe_53 ks_292 ?_
                  refine z_iconst hz 2 dX10_mayBe_56 ki_2 ?_
                  refine z_iload_n hz dX10_mayBe_57 2 rfl rfl ?_
                  refine z_imulN hz kn_2 rfl dX10_mayBe_58 ?_
                  refine z_iaddN hz kn_292 rfl dX10_mayBe_59 ?_
                  refine z_iconst hz 1 dX10_mayBe_60 ki_1 ?_
                  refine z_iaddN hz rfl kn_1 dX10_mayBe_61 ?_
                  refine z_iald hz (zAt.rd hP 1 rfl) rfl (by omega) (by decide) dX10_mayBe_62 ?_
                  refine z_iload hz dX10_mayBe_63 4 rfl ?_
                  refine z_callRD (st2 := [.int (zB (hasB (g ((292 + (2 * cz)) + 1)) (nI v)))]) hz zKp.rd (zk_S hz (rm := (zRm 0 0 0 0)) (As := [.int (g ((292 + (2 * cz)) + 1)), .int (nI v)]) (rest := []) 2 q2272 q2273 q95 q2274 (by decide +kernel) ⟨Nat.le_of_ble_eq_true rfl, Nat.le_of_ble_eq_true rfl⟩ ⟨Nat.le_of_ble_eq_true rfl, Nat.le_of_ble_eq_true rfl⟩ rfl rfl (Nat.le_of_ble_eq_true rfl) dX10_mayBe_65) (mM_has (g ((292 + (2 * cz)) + 1)) (nI v)) (fun _ _ _ => zP0) rfl ?_
                  refine z_ifB_ne hz 100 dX10_mayBe_68 (by decide) (fun c8 => ?_) (fun c8 => ?_)
                  · refine z_iconst hz 0 dX10_mayBe_100 ki_0 ?_
                    refine z_istore_n (lv' := [(0, .ref (ad 99)), (1, .int x), (2, .int (nI cz)), (3, .int 0), (4, .int (nI v)), (5, .int (g (312 + v)))]) hz [1, 2, 3, 0, 4, 5] dX10_mayBe_101 rfl (by decide) rfl ?_
                    refine z_iinc (lv' := [(0, .ref (ad 99)), (1, .int x), (2, .int (nI cz)), (3, .int 0), (4, .int (nI (v + 1))), (5, .int (g (312 + v)))]) hz (nI (v + 1)) 4 [1, 2, 3, 4, 0, 5] dX10_mayBe_102 rfl (nI_1 _) (by decide) rfl ?_
                    refine z_goto hz 19 dX10_mayBe_105 (by decide) ?_
                    refine z_lv [0, 1, 2, 3, 4] rfl ?_
                    exact ih_19 (v + 1) 0 (by omega) (by simp only [mbV]; rw [← hok, if_neg (fun h9 => h9.2.1 ⟨c5, c8⟩)]) (by omega)
                  · refine z_iload hz dX10_mayBe_71 5 rfl ?_
                    refine z_if_ne hz 96 dX10_mayBe_73 (by decide) (fun c9 => ?_) (fun c9 => ?_)
                    · refine z_iconst hz 1 dX10_mayBe_96 ki_1 ?_
                      refine z_goto hz 101 dX10_mayBe_97 (by decide) ?_
                      refine z_istore_n (lv' := [(0, .ref (ad 99)), (1, .int x), (2, .int (nI cz)), (3, .int 1), (4, .int (nI v)), (5, .int (g (312 + v)))]) hz [1, 2, 3, 0, 4, 5] dX10_mayBe_101 rfl (by decide) rfl ?_
                      refine z_iinc (lv' := [(0, .ref (ad 99)), (1, .int x), (2, .int (nI cz)), (3, .int 1), (4, .int (nI (v + 1))), (5, .int (g (312 + v)))]) hz (nI (v + 1)) 4 [1, 2, 3, 4, 0, 5] dX10_mayBe_102 rfl (nI_1 _) (by decide) rfl ?_
                      refine z_goto hz 19 dX10_mayBe_105 (by decide) ?_
                      refine z_lv [0, 1, 2, 3, 4] rfl ?_
                      exact ih_19 (v + 1) 1 (by omega) (by simp only [mbV]; rw [← hok, if_pos ⟨c4, fun h8 => c8 h8.2, fun h8 => c9 h8.1⟩]) (by omega)
                    · refine z_aload_n hz dX10_mayBe_76 0 rfl rfl ?_
                      refine z_get (C := RX10) (T := TX10) (N := 29) hz in_X10 (zAt.rd hP 0 rfl) rfl 0 (by decide) q1929 (fun _ h9 => h9) rfl dX10_mayBe_77 ?_
                      refine z_sipush hz 292 dX10_mayBe_80 ks_292 ?_
                      refine z_iconst hz 2 dX10_mayBe_83 ki_2 ?_
                      refine z_iload_n hz dX10_mayBe_84 2 rfl rfl ?_
                      refine z_imulN hz kn_2 rfl dX10_mayBe_85 ?_
                      refine z_iaddN hz kn_292 rfl dX10_mayBe_86 ?_
                      refine z_iald hz (zAt.rd hP 1 rfl) rfl (by omega) (by decide) dX10_mayBe_87 ?_
                      refine z_iload hz dX10_mayBe_88 4 rfl ?_
                      refine z_callRD (st2 := [.int (zB (hasB (g (292 + (2 * cz))) (nI v)))]) hz zKp.rd (zk_S hz (rm := (zRm 0 0 0 0)) (As := [.int (g (292 + (2 * cz))), .int (nI v)]) (rest := []) 2 q2272 q2273 q95 q2274 (by decide +kernel) ⟨Nat.le_of_ble_eq_true rfl, Nat.le_of_ble_eq_true rfl⟩ ⟨Nat.le_of_ble_eq_true rfl, Nat.le_of_ble_eq_true rfl⟩ rfl rfl (Nat.le_of_ble_eq_true rfl) dX10_mayBe_90) (mM_has (g (292 + (2 * cz))) (nI v)) (fun _ _ _ => zP0) rfl ?_
                      refine z_ifB_ne hz 100 dX10_mayBe_93 (by decide) (fun c10 => ?_) (fun c10 => ?_)
                      · refine z_iconst hz 0 dX10_mayBe_100 ki_0 ?_
                        refine z_istore_n (lv' := [(0, .ref (ad 99)), (1, .int x), (2, .int (nI cz)), (3, .int 0), (4, .int (nI v)), (5, .int (g (312 + v)))]) hz [1, 2, 3, 0, 4, 5] dX10_mayBe_101 rfl (by decide) rfl ?_
                        refine z_iinc (lv' := [(0, .ref (ad 99)), (1, .int x), (2, .int (nI cz)), (3, .int 0), (4, .int (nI (v + 1))), (5, .int (g (312 + v)))]) hz (nI (v + 1)) 4 [1, 2, 3, 4, 0, 5] dX10_mayBe_102 rfl (nI_1 _) (by decide) rfl ?_
                        refine z_goto hz 19 dX10_mayBe_105 (by decide) ?_
                        refine z_lv [0, 1, 2, 3, 4] rfl ?_
                        exact ih_19 (v + 1) 0 (by omega) (by simp only [mbV]; rw [← hok, if_neg (fun h9 => h9.2.2 ⟨c9, c10⟩)]) (by omega)
                      · refine z_iconst hz 1 dX10_mayBe_96 ki_1 ?_
                        refine z_goto hz 101 dX10_mayBe_97 (by decide) ?_
                        refine z_istore_n (lv' := [(0, .ref (ad 99)), (1, .int x), (2, .int (nI cz)), (3, .int 1), (4, .int (nI v)), (5, .int (g (312 + v)))]) hz [1, 2, 3, 0, 4, 5] dX10_mayBe_101 rfl (by decide) rfl ?_
                        refine z_iinc (lv' := [(0, .ref (ad 99)), (1, .int x), (2, .int (nI cz)), (3, .int 1), (4, .int (nI (v + 1))), (5, .int (g (312 + v)))]) hz (nI (v + 1)) 4 [1, 2, 3, 4, 0, 5] dX10_mayBe_102 rfl (nI_1 _) (by decide) rfl ?_
                        refine z_goto hz 19 dX10_mayBe_105 (by decide) ?_
                        refine z_lv [0, 1, 2, 3, 4] rfl ?_
                        exact ih_19 (v + 1) 1 (by omega) (by simp only [mbV]; rw [← hok, if_pos ⟨c4, fun h8 => c8 h8.2, fun h8 => c10 h8.2⟩]) (by omega)
        exact lp_19 ((12 - 0) + 1) 0 1 (Nat.zero_le _) rfl (Nat.lt_succ_self _)
  exact lp_4 ((nc - 0) + 1) 0 0 (Nat.zero_le _) rfl (Nat.lt_succ_self _)
set_option maxHeartbeats 400000 in
theorem mM_why {G : zG} (ad : Nat → Nat) (iv g er : Nat → Int32) (nc : Nat) (hnc : g 5 = nI nc) (h10 : nc ≤ 10) : zMet G yX10_why (ws_ yX10_why cX10_why 1 (some .int)) (zRm 2 0 0 60) [.ref (ad 99)] [zO (ad 99) 10 (mFs ad iv), zI (G.2.2.1 0) (ad 0) 602 g, zI (G.2.2.1 0) (ad 4) 6 er] (fun v9 b9 => v9 = some (.int (rOf (sWhy g))) ∧ b9 = [zO (ad 99) 10 (mFs ad iv), zI (G.2.2.1 0) (ad 0) 602 ((sWhy g).2.2), zI (G.2.2.1 0) (ad 4) 6 (eOf er (sWhy g))]) := by
  refine zMet.of (by decide +kernel) (Nat.le_of_ble_eq_true rfl) ?_
  intro p e s m args below meth c A hz hA hr hlk hnm9 Q hQ
  refine z_lv (lv' := [(0, .ref (ad 99))]) [0] rfl ?_
  have tnc : tN (nI nc) = nc := nI_clamp (by omega)
  refine z_aload_n hz dX10_why_0 0 rfl rfl ?_
  refine z_callRD (st2 := [.int (mbF g nc)]) hz zKp.mt (zk_V hz (rm := (zRm 1 0 0 30)) (As := []) (rest := []) 0 q2404 q2406 qs72 q95 q2407 (by decide +kernel) ⟨Nat.le_of_ble_eq_true rfl, Nat.le_of_ble_eq_true rfl⟩ ⟨Nat.le_of_ble_eq_true rfl, Nat.le_of_ble_eq_true rfl⟩ (zRecv (q := (RX10, TX10, 29)) hz (zAt.mt 0 0 rfl rfl) rfl) rfl rfl (Nat.le_of_ble_eq_true rfl) dX10_why_1) (mM_mayBe ad iv g nc hnc h10) (fun H9 L9 h9 => (zPc (zAt.mt 0 0 rfl rfl) h9 (zPc (zAt.mt 1 0 rfl rfl) h9 zP0))) rfl ?_
  exact z_iret hQ hz hr hlk dX10_why_4 (by
    have e9 : sWhy g = (0, mbF g nc, g) := by simp [sWhy, inR, nI_clamp, hnc, tnc]
    rw [e9]; exact ⟨congrArg (fun z => some (Value.int z)) rOf_0.symm, rfl⟩)
set_option maxHeartbeats 1000000 in
theorem mM_look {G : zG} (ad : Nat → Nat) (iv g er : Nat → Int32) (nc : Nat) (hnc : g 5 = nI nc) (h10 : nc ≤ 10) (hfd : ∀ v, v < 12 → g (312 + v) < 0 → g (312 + v) = -1) : zMet G yX10_look (ws_ yX10_look cX10_look 5 (some .int)) (zRm 2 0 0 60) [.ref (ad 99)] [zO (ad 99) 10 (mFs ad iv), zI (G.2.2.1 0) (ad 0) 602 g, zI (G.2.2.1 0) (ad 4) 6 er] (fun v9 b9 => v9 = some (.int (rOf (sLook g))) ∧ b9 = [zO (ad 99) 10 (mFs ad iv), zI (G.2.2.1 0) (ad 0) 602 ((sLook g).2.2), zI (G.2.2.1 0) (ad 4) 6 (eOf er (sLook g))]) := by
  refine zMet.of (by decide +kernel) (Nat.le_of_ble_eq_true rfl) ?_
  intro p e s m args below meth c A hz hA hr hlk hnm9 Q hQ
  refine z_lv (lv' := [(0, .ref (ad 99))]) [0] rfl ?_
  have tnc : tN (nI nc) = nc := nI_clamp (by omega)
  refine z_ldc hz q2133 dX10_look_0 ?_
  refine z_istore_n (lv' := [(0, .ref (ad 99)), (1, .int (-1000002))]) hz [1, 0] dX10_look_2 rfl (by decide) rfl ?_
  refine z_iconst hz 0 dX10_look_3 ki_0 ?_
  refine z_istore_n (lv' := [(0, .ref (ad 99)), (1, .int (-1000002)), (2, .int 0)]) hz [1, 2, 0] dX10_look_4 rfl (by decide) rfl ?_
  refine z_iconst hz 0 dX10_look_5 ki_0 ?_
  refine z_istore_n (lv' := [(0, .ref (ad 99)), (1, .int (-1000002)), (2, .int 0), (3, .int 0)]) hz [1, 2, 3, 0] dX10_look_6 rfl (by decide) rfl ?_
  have lp_7 : ∀ (n9 : Nat) (v : Nat) (bs : Int32) (fw : Int32), v ≤ 12 → bs = (lkF g nc v).1 → fw = (lkF g nc v).2 → 12 - v < n9 → zW p G.1 e (zRm 2 0 0 60) s m args below meth c 5 Q 0 0 (zΦ G A s [zO (ad 99) 10 (mFs ad iv), zI (G.2.2.1 0) (ad 0) 602 g, zI (G.2.2.1 0) (ad 4) 6 er]) 7 [(0, .ref (ad 99)), (1, .int bs), (2, .int fw), (3, .int (nI v))] [] := by
    intro n9
    induction n9 with
    | zero => intro _ _ _ _ _ _ hm; exact absurd hm (Nat.not_lt_zero _)
    | succ n9 ih_7 =>
      intro v bs fw hv hbs hfw hm_7
      refine z_iload_n hz dX10_look_7 3 rfl rfl ?_
      refine z_bipush hz 12 dX10_look_8 kb_12 ?_
      refine z_icmpN_ge hz rfl kn_12 (by omega) (by decide) 114 dX10_look_10 (by decide) (fun c1 => ?_) (fun c1 => ?_)
      · refine z_iload_n hz dX10_look_114 1 rfl rfl ?_
        refine z_if_ge hz 127 dX10_look_115 (by decide) (fun c2 => ?_) (fun c2 => ?_)
        · refine z_iload_n hz dX10_look_127 1 rfl rfl ?_
          exact z_iret hQ hz hr hlk dX10_look_128 (by
            have e9 : sLook g = (0, bs, g) := by simp only [sLook]; rw [hnc, tnc, show lkF g nc 12 = lkF g nc v from (by rw [show v = 12 by omega]), ← hbs, if_neg (Int32.not_lt.mpr c2)]
            rw [e9]; exact ⟨congrArg (fun z => some (Value.int z)) rOf_0.symm, rfl⟩)
        · refine z_aload_n hz dX10_look_118 0 rfl rfl ?_
          refine z_ldc hz q2133 dX10_look_119 ?_
          refine z_callD (bs2 := [zO (ad 99) 10 (mFs ad iv), zI (G.2.2.1 0) (ad 0) 602 g, zI (G.2.2.1 0) (ad 4) 6 (upd er 2 (er 2 + 1))]) (st2 := [.int (-1000002)]) hz hA (zk_V hz (rm := (zRm 0 0 0 0)) (As := [.int (-1000002)]) (rest := []) 1 q2032 q2034 qs35 q95 q2035 (by decide +kernel) ⟨Nat.le_of_ble_eq_true rfl, Nat.le_of_ble_eq_true rfl⟩ ⟨Nat.le_of_ble_eq_true rfl, Nat.le_of_ble_eq_true rfl⟩ (zRecv (q := (RX10, TX10, 29)) hz (zAt.mt 0 0 rfl rfl) rfl) rfl rfl (Nat.le_of_ble_eq_true rfl) dX10_look_121) (mM_finding ad iv er (-1000002) 2 (by decide) (by decide)) [0, 2] rfl (by decide) rfl rfl ?_
          refine z_goto hz 128 dX10_look_124 (by decide) ?_
          exact z_iret hQ hz hr hlk dX10_look_128 (by
            have e9 : sLook g = (2, 0, g) := by simp only [sLook]; rw [hnc, tnc, show lkF g nc 12 = lkF g nc v from (by rw [show v = 12 by omega]), ← hbs, if_pos (Int32.not_le.mp c2)]
            rw [e9]; exact ⟨congrArg (fun z => some (Value.int z)) rE2, rfl⟩)
      · refine z_aload_n hz dX10_look_13 0 rfl rfl ?_
        refine z_callRD (st2 := [.int (mbF g nc)]) hz zKp.mt (zk_V hz (rm := (zRm 1 0 0 30)) (As := []) (rest := []) 0 q2404 q2406 qs72 q95 q2407 (by decide +kernel) ⟨Nat.le_of_ble_eq_true rfl, Nat.le_of_ble_eq_true rfl⟩ ⟨Nat.le_of_ble_eq_true rfl, Nat.le_of_ble_eq_true rfl⟩ (zRecv (q := (RX10, TX10, 29)) hz (zAt.mt 0 0 rfl rfl) rfl) rfl rfl (Nat.le_of_ble_eq_true rfl) dX10_look_14) (mM_mayBe ad iv g nc hnc h10) (fun H9 L9 h9 => (zPc (zAt.mt 0 0 rfl rfl) h9 (zPc (zAt.mt 1 0 rfl rfl) h9 zP0))) rfl ?_
        refine z_callRD (st2 := [.int (bitsF (mbF g nc) 16)]) hz zKp.mt (zk_S hz (rm := (zRm 0 0 0 0)) (As := [.int (mbF g nc)]) (rest := []) 1 q2142 q2143 q95 q2144 (by decide +kernel) ⟨Nat.le_of_ble_eq_true rfl, Nat.le_of_ble_eq_true rfl⟩ ⟨Nat.le_of_ble_eq_true rfl, Nat.le_of_ble_eq_true rfl⟩ rfl rfl (Nat.le_of_ble_eq_true rfl) dX10_look_17) (mM_bits (mbF g nc)) (fun _ _ _ => zP0) rfl ?_
        refine z_iconst hz 1 dX10_look_20 ki_1 ?_
        refine z_icmp_le hz 114 dX10_look_21 (by decide) (fun c3 => ?_) (fun c3 => ?_)
        · refine z_iload_n hz dX10_look_114 1 rfl rfl ?_
          refine z_if_ge hz 127 dX10_look_115 (by decide) (fun c4 => ?_) (fun c4 => ?_)
          · refine z_iload_n hz dX10_look_127 1 rfl rfl ?_
            exact z_iret hQ hz hr hlk dX10_look_128 (by
              have e9 : sLook g = (0, bs, g) := by simp only [sLook]; rw [hnc, tnc, show lkF g nc 12 = lkF g nc v from (by rw [lkF_few (Int32.not_lt.mpr c3), lkF_few (Int32.not_lt.mpr c3)]), ← hbs, if_neg (Int32.not_lt.mpr c4)]
              rw [e9]; exact ⟨congrArg (fun z => some (Value.int z)) rOf_0.symm, rfl⟩)
          · refine z_aload_n hz dX10_look_118 0 rfl rfl ?_
            refine z_ldc hz q2133 dX10_look_119 ?_
            refine z_callD (bs2 := [zO (ad 99) 10 (mFs ad iv), zI (G.2.2.1 0) (ad 0) 602 g, zI (G.2.2.1 0) (ad 4) 6 (upd er 2 (er 2 + 1))]) (st2 := [.int (-1000002)]) hz hA (zk_V hz (rm := (zRm 0 0 0 0)) (As := [.int (-1000002)]) (rest := []) 1 q2032 q2034 qs35 q95 q2035 (by decide +kernel) ⟨Nat.le_of_ble_eq_true rfl, Nat.le_of_ble_eq_true rfl⟩ ⟨Nat.le_of_ble_eq_true rfl, Nat.le_of_ble_eq_true rfl⟩ (zRecv (q := (RX10, TX10, 29)) hz (zAt.mt 0 0 rfl rfl) rfl) rfl rfl (Nat.le_of_ble_eq_true rfl) dX10_look_121) (mM_finding ad iv er (-1000002) 2 (by decide) (by decide)) [0, 2] rfl (by decide) rfl rfl ?_
            refine z_goto hz 128 dX10_look_124 (by decide) ?_
            exact z_iret hQ hz hr hlk dX10_look_128 (by
              have e9 : sLook g = (2, 0, g) := by simp only [sLook]; rw [hnc, tnc, show lkF g nc 12 = lkF g nc v from (by rw [lkF_few (Int32.not_lt.mpr c3), lkF_few (Int32.not_lt.mpr c3)]), ← hbs, if_pos (Int32.not_le.mp c4)]
              rw [e9]; exact ⟨congrArg (fun z => some (Value.int z)) rE2, rfl⟩)
        · refine z_aload_n hz dX10_look_24 0 rfl rfl ?_
          refine z_get (C := RX10) (T := TX10) (N := 29) hz in_X10 (zAt.mt 0 0 rfl rfl) rfl 0 (by decide) q1929 (fun _ h9 => h9) rfl dX10_look_25 ?_
          refine z_sipush hz 312 dX10_look_28 ks_312 ?_
          refine z_iload_n hz dX10_look_31 3 rfl rfl ?_
          refine z_iaddN hz kn_312 rfl dX10_look_32 ?_
          refine z_iald hz (zAt.mt 1 0 rfl rfl) rfl (by omega) (by decide) dX10_look_33 ?_
          refine z_if_ge hz 108 dX10_look_34 (by decide) (fun c5 => ?_) (fun c5 => ?_)
          · refine z_iinc (lv' := [(0, .ref (ad 99)), (1, .int bs), (2, .int fw), (3, .int (nI (v + 1)))]) hz (nI (v + 1)) 3 [1, 2, 3, 0] dX10_look_108 rfl (nI_1 _) (by decide) rfl ?_
            refine z_goto hz 7 dX10_look_111 (by decide) ?_
            exact ih_7 (v + 1) bs fw (by omega) (by simp only [lkF]; rw [← hbs, ← hfw, if_neg (fun h9 => (Int32.not_lt.mpr c5) h9.1.2), ← hbs]) (by simp only [lkF]; rw [← hbs, ← hfw, if_neg (fun h9 => (Int32.not_lt.mpr c5) h9.1.2), ← hfw]) (by omega)
          · refine z_aload_n hz dX10_look_37 0 rfl rfl ?_
            refine z_get (C := RX10) (T := TX10) (N := 29) hz in_X10 (zAt.mt 0 0 rfl rfl) rfl 0 (by decide) q1929 (fun _ h9 => h9) rfl dX10_look_38 ?_
            refine z_sipush hz 312 dX10_look_41 ks_312 ?_
            refine z_iload_n hz dX10_look_44 3 rfl rfl ?_
            refine z_iaddN hz kn_312 rfl dX10_look_45 ?_
            refine z_iconst hz 1 dX10_look_46 ki_1 ?_
            refine z_iast hz 1 0 rfl rfl rfl (by omega) (by decide) dX10_look_47 ?_
            refine z_bs (bs2 := [zO (ad 99) 10 (mFs ad iv), zI (G.2.2.1 0) (ad 0) 602 (upd g (312 + v) 1), zI (G.2.2.1 0) (ad 4) 6 er]) rfl ?_
            refine z_aload_n hz dX10_look_48 0 rfl rfl ?_
            refine z_callRD (st2 := [.int (mbF (upd g (312 + v) 1) nc)]) hz zKp.mt (zk_V hz (rm := (zRm 1 0 0 30)) (As := []) (rest := []) 0 q2404 q2406 qs72 q95 q2407 (by decide +kernel) ⟨Nat.le_of_ble_eq_true rfl, Nat.le_of_ble_eq_true rfl⟩ ⟨Nat.le_of_ble_eq_true rfl, Nat.le_of_ble_eq_true rfl⟩ (zRecv (q := (RX10, TX10, 29)) hz (zAt.mt 0 0 rfl rfl) rfl) rfl rfl (Nat.le_of_ble_eq_true rfl) dX10_look_49) (mM_mayBe ad iv (upd g (312 + v) 1) nc (ld_ne (by omega) hnc) h10) (fun H9 L9 h9 => (zPc (zAt.mt 0 0 rfl rfl) h9 (zPc (zAt.mt 1 0 rfl rfl) h9 zP0))) rfl ?_
            refine z_callRD (st2 := [.int (bitsF (mbF (upd g (312 + v) 1) nc) 16)]) hz zKp.mt (zk_S hz (rm := (zRm 0 0 0 0)) (As := [.int (mbF (upd g (312 + v) 1) nc)]) (rest := []) 1 q2142 q2143 q95 q2144 (by decide +kernel) ⟨Nat.le_of_ble_eq_true rfl, Nat.le_of_ble_eq_true rfl⟩ ⟨Nat.le_of_ble_eq_true rfl, Nat.le_of_ble_eq_true rfl⟩ rfl rfl (Nat.le_of_ble_eq_true rfl) dX10_look_52) (mM_bits (mbF (upd g (312 + v) 1) nc)) (fun _ _ _ => zP0) rfl ?_
            refine z_istore (lv' := [(0, .ref (ad 99)), (1, .int bs), (2, .int fw), (3, .int (nI v)), (4, .int (bitsF (mbF (upd g (312 + v) 1) nc) 16))]) hz [1, 2, 3, 4, 0] dX10_look_55 (by decide) rfl ?_
            refine z_aload_n hz dX10_look_57 0 rfl rfl ?_
            refine z_get (C := RX10) (T := TX10) (N := 29) hz in_X10 (zAt.mt 0 0 rfl rfl) rfl 0 (by decide) q1929 (fun _ h9 => h9) rfl dX10_look_58 ?_
            refine z_sipush hz 312 dX10_look_61 ks_312 ?_
            refine z_iload_n hz dX10_look_64 3 rfl rfl ?_
            refine z_iaddN hz kn_312 rfl dX10_look_65 ?_
            refine z_iconst hz 0 dX10_look_66 ki_0 ?_
            refine z_iast hz 1 0 rfl rfl rfl (by omega) (by decide) dX10_look_67 ?_
            refine z_bs (bs2 := [zO (ad 99) 10 (mFs ad iv), zI (G.2.2.1 0) (ad 0) 602 (upd g (312 + v) 0), zI (G.2.2.1 0) (ad 4) 6 er]) (congrArg (fun q9 => [zO (ad 99) 10 (mFs ad iv), zI (G.2.2.1 0) (ad 0) 602 q9, zI (G.2.2.1 0) (ad 4) 6 er]) upd_upd) ?_
            refine z_iload hz dX10_look_68 4 rfl ?_
            refine z_aload_n hz dX10_look_70 0 rfl rfl ?_
            refine z_callRD (st2 := [.int (mbF (upd g (312 + v) 0) nc), .int (bitsF (mbF (upd g (312 + v) 1) nc) 16)]) hz zKp.mt (zk_V hz (rm := (zRm 1 0 0 30)) (As := []) (rest := [.int (bitsF (mbF (upd g (312 + v) 1) nc) 16)]) 0 q2404 q2406 qs72 q95 q2407 (by decide +kernel) ⟨Nat.le_of_ble_eq_true rfl, Nat.le_of_ble_eq_true rfl⟩ ⟨Nat.le_of_ble_eq_true rfl, Nat.le_of_ble_eq_true rfl⟩ (zRecv (q := (RX10, TX10, 29)) hz (zAt.mt 0 0 rfl rfl) rfl) rfl rfl (Nat.le_of_ble_eq_true rfl) dX10_look_71) (mM_mayBe ad iv (upd g (312 + v) 0) nc (ld_ne (by omega) hnc) h10) (fun H9 L9 h9 => (zPc (zAt.mt 0 0 rfl rfl) h9 (zPc (zAt.mt 1 0 rfl rfl) h9 zP0))) rfl ?_
            refine z_callRD (st2 := [.int (bitsF (mbF (upd g (312 + v) 0) nc) 16), .int (bitsF (mbF (upd g (312 + v) 1) nc) 16)]) hz zKp.mt (zk_S hz (rm := (zRm 0 0 0 0)) (As := [.int (mbF (upd g (312 + v) 0) nc)]) (rest := [.int (bitsF (mbF (upd g (312 + v) 1) nc) 16)]) 1 q2142 q2143 q95 q2144 (by decide +kernel) ⟨Nat.le_of_ble_eq_true rfl, Nat.le_of_ble_eq_true rfl⟩ ⟨Nat.le_of_ble_eq_true rfl, Nat.le_of_ble_eq_true rfl⟩ rfl rfl (Nat.le_of_ble_eq_true rfl) dX10_look_74) (mM_bits (mbF (upd g (312 + v) 0) nc)) (fun _ _ _ => zP0) rfl ?_
            refine z_mmax hz q2113 (Nat.le_of_ble_eq_true rfl) (Nat.le_of_ble_eq_true rfl) ⟨Nat.le_of_ble_eq_true rfl, Nat.le_of_ble_eq_true rfl⟩ dX10_look_77 ?_
            refine z_istore (lv' := [(0, .ref (ad 99)), (1, .int bs), (2, .int fw), (3, .int (nI v)), (4, .int (maxI (bitsF (mbF (upd g (312 + v) 1) nc) 16) (bitsF (mbF (upd g (312 + v) 0) nc) 16)))]) hz [1, 2, 3, 4, 0] dX10_look_80 (by decide) rfl ?_
            refine z_aload_n hz dX10_look_82 0 rfl rfl ?_
            refine z_get (C := RX10) (T := TX10) (N := 29) hz in_X10 (zAt.mt 0 0 rfl rfl) rfl 0 (by decide) q1929 (fun _ h9 => h9) rfl dX10_look_83 ?_
            refine z_sipush hz 312 dX10_look_86 ks_312 ?_
            refine z_iload_n hz dX10_look_89 3 rfl rfl ?_
            refine z_iaddN hz kn_312 rfl dX10_look_90 ?_
            refine z_iconst hz (-1) dX10_look_91 ki_m1 ?_
            refine z_iast hz 1 0 rfl rfl rfl (by omega) (by decide) dX10_look_92 ?_
            refine z_bs (bs2 := [zO (ad 99) 10 (mFs ad iv), zI (G.2.2.1 0) (ad 0) 602 g, zI (G.2.2.1 0) (ad 4) 6 er]) (congrArg (fun q9 => [zO (ad 99) 10 (mFs ad iv), zI (G.2.2.1 0) (ad 0) 602 q9, zI (G.2.2.1 0) (ad 4) 6 er]) (upd_back (hfd v (by omega) (by first | assumption | exact Int32.not_le.mp (by assumption))))) ?_
            refine z_iload_n hz dX10_look_93 1 rfl rfl ?_
            refine z_if_lt hz 103 dX10_look_94 (by decide) (fun c6 => ?_) (fun c6 => ?_)
            · refine z_iload_n hz dX10_look_103 3 rfl rfl ?_
              refine z_istore_n (lv' := [(0, .ref (ad 99)), (1, .int (nI v)), (2, .int fw), (3, .int (nI v)), (4, .int (maxI (bitsF (mbF (upd g (312 + v) 1) nc) 16) (bitsF (mbF (upd g (312 + v) 0) nc) 16)))]) hz [1, 0, 2, 3, 4] dX10_look_104 rfl (by decide) rfl ?_
              refine z_iload hz dX10_look_105 4 rfl ?_
              refine z_istore_n (lv' := [(0, .ref (ad 99)), (1, .int (nI v)), (2, .int (maxI (bitsF (mbF (upd g (312 + v) 1) nc) 16) (bitsF (mbF (upd g (312 + v) 0) nc) 16))), (3, .int (nI v)), (4, .int (maxI (bitsF (mbF (upd g (312 + v) 1) nc) 16) (bitsF (mbF (upd g (312 + v) 0) nc) 16)))]) hz [1, 2, 0, 3, 4] dX10_look_107 rfl (by decide) rfl ?_
              refine z_iinc (lv' := [(0, .ref (ad 99)), (1, .int (nI v)), (2, .int (maxI (bitsF (mbF (upd g (312 + v) 1) nc) 16) (bitsF (mbF (upd g (312 + v) 0) nc) 16))), (3, .int (nI (v + 1))), (4, .int (maxI (bitsF (mbF (upd g (312 + v) 1) nc) 16) (bitsF (mbF (upd g (312 + v) 0) nc) 16)))]) hz (nI (v + 1)) 3 [1, 2, 3, 0, 4] dX10_look_108 rfl (nI_1 _) (by decide) rfl ?_
              refine z_goto hz 7 dX10_look_111 (by decide) ?_
              refine z_lv [0, 1, 2, 3] rfl ?_
              exact ih_7 (v + 1) (nI v) (maxI (bitsF (mbF (upd g (312 + v) 1) nc) 16) (bitsF (mbF (upd g (312 + v) 0) nc) 16)) (by omega) (by simp only [lkF]; rw [← hbs, ← hfw, if_pos ⟨⟨Int32.not_le.mp c3, (Int32.not_le.mp c5)⟩, Or.inl c6⟩]) (by simp only [lkF]; rw [← hbs, ← hfw, if_pos ⟨⟨Int32.not_le.mp c3, (Int32.not_le.mp c5)⟩, Or.inl c6⟩]; rfl) (by omega)
            · refine z_iload hz dX10_look_97 4 rfl ?_
              refine z_iload_n hz dX10_look_99 2 rfl rfl ?_
              refine z_icmp_ge hz 108 dX10_look_100 (by decide) (fun c7 => ?_) (fun c7 => ?_)
              · refine z_iinc (lv' := [(0, .ref (ad 99)), (1, .int bs), (2, .int fw), (3, .int (nI (v + 1))), (4, .int (maxI (bitsF (mbF (upd g (312 + v) 1) nc) 16) (bitsF (mbF (upd g (312 + v) 0) nc) 16)))]) hz (nI (v + 1)) 3 [1, 2, 3, 0, 4] dX10_look_108 rfl (nI_1 _) (by decide) rfl ?_
                refine z_goto hz 7 dX10_look_111 (by decide) ?_
                refine z_lv [0, 1, 2, 3] rfl ?_
                exact ih_7 (v + 1) bs fw (by omega) (by simp only [lkF]; rw [← hbs, ← hfw, if_neg (fun h9 => h9.2.elim c6 (Int32.not_lt.mpr c7)), ← hbs]) (by simp only [lkF]; rw [← hbs, ← hfw, if_neg (fun h9 => h9.2.elim c6 (Int32.not_lt.mpr c7)), ← hfw]) (by omega)
              · refine z_iload_n hz dX10_look_103 3 rfl rfl ?_
                refine z_istore_n (lv' := [(0, .ref (ad 99)), (1, .int (nI v)), (2, .int fw), (3, .int (nI v)), (4, .int (maxI (bitsF (mbF (upd g (312 + v) 1) nc) 16) (bitsF (mbF (upd g (312 + v) 0) nc) 16)))]) hz [1, 0, 2, 3, 4] dX10_look_104 rfl (by decide) rfl ?_
                refine z_iload hz dX10_look_105 4 rfl ?_
                refine z_istore_n (lv' := [(0, .ref (ad 99)), (1, .int (nI v)), (2, .int (maxI (bitsF (mbF (upd g (312 + v) 1) nc) 16) (bitsF (mbF (upd g (312 + v) 0) nc) 16))), (3, .int (nI v)), (4, .int (maxI (bitsF (mbF (upd g (312 + v) 1) nc) 16) (bitsF (mbF (upd g (312 + v) 0) nc) 16)))]) hz [1, 2, 0, 3, 4] dX10_look_107 rfl (by decide) rfl ?_
                refine z_iinc (lv' := [(0, .ref (ad 99)), (1, .int (nI v)), (2, .int (maxI (bitsF (mbF (upd g (312 + v) 1) nc) 16) (bitsF (mbF (upd g (312 + v) 0) nc) 16))), (3, .int (nI (v + 1))), (4, .int (maxI (bitsF (mbF (upd g (312 + v) 1) nc) 16) (bitsF (mbF (upd g (312 + v) 0) nc) 16)))]) hz (nI (v + 1)) 3 [1, 2, 3, 0, 4] dX10_look_108 rfl (nI_1 _) (by decide) rfl ?_
                refine z_goto hz 7 dX10_look_111 (by decide) ?_
                refine z_lv [0, 1, 2, 3] rfl ?_
                exact ih_7 (v + 1) (nI v) (maxI (bitsF (mbF (upd g (312 + v) 1) nc) 16) (bitsF (mbF (upd g (312 + v) 0) nc) 16)) (by omega) (by simp only [lkF]; rw [← hbs, ← hfw, if_pos ⟨⟨Int32.not_le.mp c3, (Int32.not_le.mp c5)⟩, Or.inr (Int32.not_le.mp c7)⟩]) (by simp only [lkF]; rw [← hbs, ← hfw, if_pos ⟨⟨Int32.not_le.mp c3, (Int32.not_le.mp c5)⟩, Or.inr (Int32.not_le.mp c7)⟩]; rfl) (by omega)
  exact lp_7 ((12 - 0) + 1) 0 (-1000002) 0 (Nat.zero_le _) rfl rfl (Nat.lt_succ_self _)
set_option maxHeartbeats 400000 in
theorem mM_image {G : zG} (ad : Nat → Nat) (iv g kp : Nat → Int32) : zMet G yX10_image (ws_ yX10_image cX10_image 1 (some .int)) (zRm 1 0 0 30) [.ref (ad 99)] [zO (ad 99) 10 (mFs ad iv), zI (G.2.2.1 0) (ad 0) 602 g, zI (G.2.2.1 0) (ad 1) 602 kp] (fun v9 b9 => v9 = some (.int (iv 3 + 1)) ∧ b9 = [zO (ad 99) 10 (mFs ad (upd iv 3 (iv 3 + 1))), zI (G.2.2.1 0) (ad 0) 602 g, zI (G.2.2.1 0) (ad 1) 602 g]) := by
  refine zMet.of (by decide +kernel) (Nat.le_of_ble_eq_true rfl) ?_
  intro p e s m args below meth c A hz hA hr hlk hnm9 Q hQ
  refine z_lv (lv' := [(0, .ref (ad 99))]) [0] rfl ?_
  refine z_aload_n hz dX10_image_0 0 rfl rfl ?_
  refine z_get (C := RX10) (T := TX10) (N := 29) hz in_X10 (zAt.mt 0 0 rfl rfl) rfl 0 (by decide) q1929 (fun _ h9 => h9) rfl dX10_image_1 ?_
  refine z_aload_n hz dX10_image_4 0 rfl rfl ?_
  refine z_get (C := RX10) (T := TX10) (N := 29) hz in_X10 (zAt.mt 0 0 rfl rfl) rfl 1 (by decide) q1930 (fun _ h9 => h9) rfl dX10_image_5 ?_
  refine z_callD (bs2 := [zO (ad 99) 10 (mFs ad iv), zI (G.2.2.1 0) (ad 0) 602 g, zI (G.2.2.1 0) (ad 1) 602 g]) (st2 := []) hz hA (zk_S hz (rm := (zRm 0 0 0 0)) (As := [.ref (ad 0), .ref (ad 1)]) (rest := []) 2 q2130 q2131 q95 q2132 (by decide +kernel) ⟨Nat.le_of_ble_eq_true rfl, Nat.le_of_ble_eq_true rfl⟩ ⟨Nat.le_of_ble_eq_true rfl, Nat.le_of_ble_eq_true rfl⟩ rfl rfl (Nat.le_of_ble_eq_true rfl) dX10_image_8) (mM_copy (ad 0) (ad 1) g kp) [1, 2] rfl (by decide) rfl rfl ?_
  refine z_aload_n hz dX10_image_11 0 rfl rfl ?_
  refine z_dup hz dX10_image_12 rfl ?_
  refine z_get (C := RX10) (T := TX10) (N := 29) hz in_X10 (zAt.mt 0 0 rfl rfl) rfl 3 (by decide) q1932 (fun _ h9 => h9) rfl dX10_image_13 ?_
  refine z_iconst hz 1 dX10_image_16 ki_1 ?_
  refine z_iadd hz dX10_image_17 ?_
  refine z_put (C := RX10) (T := TX10) (N := 29) hz in_X10 tyX10 tyX10_ok nmX10 0 0 rfl rfl rfl 3 (by decide) q1932 (fun _ h9 => h9) rfl rfl rfl (Nat.le_of_ble_eq_true rfl) dX10_image_18 ?_
  refine z_bs (bs2 := [zO (ad 99) 10 (mFs ad (upd iv 3 ((iv 3) + 1))), zI (G.2.2.1 0) (ad 0) 602 g, zI (G.2.2.1 0) (ad 1) 602 g]) rfl ?_
  refine z_aload_n hz dX10_image_21 0 rfl rfl ?_
  refine z_get (C := RX10) (T := TX10) (N := 29) hz in_X10 (zAt.mt 0 0 rfl rfl) rfl 3 (by decide) q1932 (fun _ h9 => h9) rfl dX10_image_22 ?_
  exact z_iret hQ hz hr hlk dX10_image_25 ⟨rfl, rfl⟩
set_option maxHeartbeats 400000 in
theorem mM_restore {G : zG} (ad : Nat → Nat) (iv g er kp : Nat → Int32) : zMet G yX10_restore (ws_ yX10_restore cX10_restore 1 (some .int)) (zRm 1 0 0 30) [.ref (ad 99)] [zO (ad 99) 10 (mFs ad iv), zI (G.2.2.1 0) (ad 0) 602 g, zI (G.2.2.1 0) (ad 4) 6 er, zI (G.2.2.1 0) (ad 1) 602 kp] (fun v9 b9 => v9 = some (.int (rOf (sRestore g kp (iv 3)))) ∧ b9 = [zO (ad 99) 10 (mFs ad iv), zI (G.2.2.1 0) (ad 0) 602 ((sRestore g kp (iv 3)).2.2), zI (G.2.2.1 0) (ad 4) 6 (eOf er (sRestore g kp (iv 3))), zI (G.2.2.1 0) (ad 1) 602 kp]) := by
  refine zMet.of (by decide +kernel) (Nat.le_of_ble_eq_true rfl) ?_
  intro p e s m args below meth c A hz hA hr hlk hnm9 Q hQ
  refine z_lv (lv' := [(0, .ref (ad 99))]) [0] rfl ?_
  refine z_aload_n hz dX10_restore_0 0 rfl rfl ?_
  refine z_get (C := RX10) (T := TX10) (N := 29) hz in_X10 (zAt.mt 0 0 rfl rfl) rfl 3 (by decide) q1932 (fun _ h9 => h9) rfl dX10_restore_1 ?_
  refine z_if_ne hz 14 dX10_restore_4 (by decide) (fun c1 => ?_) (fun c1 => ?_)
  · refine z_aload_n hz dX10_restore_14 0 rfl rfl ?_
    refine z_get (C := RX10) (T := TX10) (N := 29) hz in_X10 (zAt.mt 0 0 rfl rfl) rfl 1 (by decide) q1930 (fun _ h9 => h9) rfl dX10_restore_15 ?_
    refine z_aload_n hz dX10_restore_18 0 rfl rfl ?_
    refine z_get (C := RX10) (T := TX10) (N := 29) hz in_X10 (zAt.mt 0 0 rfl rfl) rfl 0 (by decide) q1929 (fun _ h9 => h9) rfl dX10_restore_19 ?_
    refine z_callD (bs2 := [zO (ad 99) 10 (mFs ad iv), zI (G.2.2.1 0) (ad 0) 602 kp, zI (G.2.2.1 0) (ad 4) 6 er, zI (G.2.2.1 0) (ad 1) 602 kp]) (st2 := []) hz hA (zk_S hz (rm := (zRm 0 0 0 0)) (As := [.ref (ad 1), .ref (ad 0)]) (rest := []) 2 q2130 q2131 q95 q2132 (by decide +kernel) ⟨Nat.le_of_ble_eq_true rfl, Nat.le_of_ble_eq_true rfl⟩ ⟨Nat.le_of_ble_eq_true rfl, Nat.le_of_ble_eq_true rfl⟩ rfl rfl (Nat.le_of_ble_eq_true rfl) dX10_restore_22) (mM_copy (ad 1) (ad 0) kp g) [3, 1] rfl (by decide) rfl rfl ?_
    refine z_aload_n hz dX10_restore_25 0 rfl rfl ?_
    refine z_get (C := RX10) (T := TX10) (N := 29) hz in_X10 (zAt.mt 0 0 rfl rfl) rfl 0 (by decide) q1929 (fun _ h9 => h9) rfl dX10_restore_26 ?_
    refine z_iconst hz 0 dX10_restore_29 ki_0 ?_
    refine z_iald hz (zAt.mt 1 0 rfl rfl) kn_0 (by decide) (by decide) dX10_restore_30 ?_
    exact z_iret hQ hz hr hlk dX10_restore_31 (by
      have e9 : sRestore g kp (iv 3) = (0, kp 0, kp) := by simp [sRestore, inR, nI_clamp, c1]
      rw [e9]; exact ⟨congrArg (fun z => some (Value.int z)) rOf_0.symm, rfl⟩)
  · refine z_aload_n hz dX10_restore_7 0 rfl rfl ?_
    refine z_ldc hz q2133 dX10_restore_8 ?_
    refine z_callD (bs2 := [zO (ad 99) 10 (mFs ad iv), zI (G.2.2.1 0) (ad 0) 602 g, zI (G.2.2.1 0) (ad 4) 6 (upd er 2 (er 2 + 1)), zI (G.2.2.1 0) (ad 1) 602 kp]) (st2 := [.int (-1000002)]) hz hA (zk_V hz (rm := (zRm 0 0 0 0)) (As := [.int (-1000002)]) (rest := []) 1 q2032 q2034 qs35 q95 q2035 (by decide +kernel) ⟨Nat.le_of_ble_eq_true rfl, Nat.le_of_ble_eq_true rfl⟩ ⟨Nat.le_of_ble_eq_true rfl, Nat.le_of_ble_eq_true rfl⟩ (zRecv (q := (RX10, TX10, 29)) hz (zAt.mt 0 0 rfl rfl) rfl) rfl rfl (Nat.le_of_ble_eq_true rfl) dX10_restore_10) (mM_finding ad iv er (-1000002) 2 (by decide) (by decide)) [0, 2] rfl (by decide) rfl rfl ?_
    exact z_iret hQ hz hr hlk dX10_restore_13 (by
      have e9 : sRestore g kp (iv 3) = (2, 0, g) := by simp [sRestore, inR, nI_clamp, c1]
      rw [e9]; exact ⟨congrArg (fun z => some (Value.int z)) rE2, rfl⟩)
set_option maxHeartbeats 1000000 in
theorem mM_feed {G : zG} (ad : Nat → Nat) (iv g er : Nat → Int32) (word : Int64) (nn : Int32) (n0 : Nat) (hn0 : g 6 = nI n0) (h50 : n0 ≤ 50) : zMet G yX10_feed (ws_ yX10_feed cX10_feed 5 (some .int)) (zRm 2 0 0 60) [.ref (ad 99), .long word, .int nn] [zO (ad 99) 10 (mFs ad iv), zI (G.2.2.1 0) (ad 0) 602 g, zI (G.2.2.1 0) (ad 4) 6 er] (fun v9 b9 => v9 = some (.int (rOf (sFeed g word nn))) ∧ b9 = [zO (ad 99) 10 (mFs ad iv), zI (G.2.2.1 0) (ad 0) 602 ((sFeed g word nn).2.2), zI (G.2.2.1 0) (ad 4) 6 (eOf er (sFeed g word nn))]) := by
  refine zMet.of (by decide +kernel) (Nat.le_of_ble_eq_true rfl) ?_
  intro p e s m args below meth c A hz hA hr hlk hnm9 Q hQ
  refine z_lv (lv' := [(0, .ref (ad 99)), (1, .long word), (3, .int nn)]) [0, 1, 2] rfl ?_
  have tn0 : tN (nI n0) = n0 := nI_clamp (by omega)
  refine z_iload_n hz dX10_feed_0 2 rfl rfl ?_
  refine z_iconst hz 1 dX10_feed_1 ki_1 ?_
  refine z_bipush hz 8 dX10_feed_2 kb_8 ?_
  refine z_callRD (st2 := [.int (zB (inR nn 1 8))]) hz zKp.mt (zk_S hz (rm := (zRm 0 0 0 0)) (As := [.int nn, .int 1, .int 8]) (rest := []) 3 q2023 q2024 q95 q2025 (by decide +kernel) ⟨Nat.le_of_ble_eq_true rfl, Nat.le_of_ble_eq_true rfl⟩ ⟨Nat.le_of_ble_eq_true rfl, Nat.le_of_ble_eq_true rfl⟩ rfl rfl (Nat.le_of_ble_eq_true rfl) dX10_feed_4) (mM_within nn 1 8) (fun _ _ _ => zP0) rfl ?_
  refine z_ifB_ne hz 17 dX10_feed_7 (by decide) (fun c1 => ?_) (fun c1 => ?_)
  · obtain ⟨j, j_lo, j_hi, rfl⟩ := inR_nat 1 8 kn_1 kn_8 (by decide) (by decide) c1
    have t_j : tN (nI j) = j := nI_clamp (by omega)
    refine z_aload_n hz dX10_feed_17 0 rfl rfl ?_
    refine z_get (C := RX10) (T := TX10) (N := 29) hz in_X10 (zAt.mt 0 0 rfl rfl) rfl 0 (by decide) q1929 (fun _ h9 => h9) rfl dX10_feed_18 ?_
    refine z_bipush hz 6 dX10_feed_21 kb_6 ?_
    refine z_iald hz (zAt.mt 1 0 rfl rfl) kn_6 (by decide) (by decide) dX10_feed_23 ?_
    refine z_top hn0 ?_
    refine z_iload_n hz dX10_feed_24 2 rfl rfl ?_
    refine z_iaddN hz rfl rfl dX10_feed_25 ?_
    refine z_bipush hz 50 dX10_feed_26 kb_50 ?_
    refine z_icmpN_le hz rfl kn_50 (by omega) (by decide) 38 dX10_feed_28 (by decide) (fun c2 => ?_) (fun c2 => ?_)
    · refine z_iconst hz 0 dX10_feed_38 ki_0 ?_
      refine z_istore (lv' := [(0, .ref (ad 99)), (1, .long word), (3, .int (nI j)), (4, .int 0)]) hz [1, 2, 3, 0] dX10_feed_39 (by decide) rfl ?_
      have lp_41 : ∀ (n9 : Nat) (k : Nat) (h : Nat → Int32), k ≤ j → h = fdF g word n0 k → j - k < n9 → zW p G.1 e (zRm 2 0 0 60) s m args below meth c 5 Q 0 0 (zΦ G A s [zO (ad 99) 10 (mFs ad iv), zI (G.2.2.1 0) (ad 0) 602 h, zI (G.2.2.1 0) (ad 4) 6 er]) 41 [(0, .ref (ad 99)), (1, .long word), (3, .int (nI j)), (4, .int (nI k))] [] := by
        intro n9
        induction n9 with
        | zero => intro _ _ _ _ hm; exact absurd hm (Nat.not_lt_zero _)
        | succ n9 ih_41 =>
          intro k h hk hh hm_41
          have hn6 : h 6 = nI (n0 + k) := by rw [hh]; exact fdF_6 hn0 k
          refine z_iload hz dX10_feed_41 3 rfl ?_
          refine z_iload_n hz dX10_feed_43 2 rfl rfl ?_
          refine z_icmpN_ge hz rfl rfl (by omega) (by omega) 92 dX10_feed_44 (by decide) (fun c3 => ?_) (fun c3 => ?_)
          · refine z_aload_n hz dX10_feed_92 0 rfl rfl ?_
            refine z_get (C := RX10) (T := TX10) (N := 29) hz in_X10 (zAt.mt 0 0 rfl rfl) rfl 0 (by decide) q1929 (fun _ h9 => h9) rfl dX10_feed_93 ?_
            refine z_bipush hz 6 dX10_feed_96 kb_6 ?_
            refine z_iald hz (zAt.mt 1 0 rfl rfl) kn_6 (by decide) (by decide) dX10_feed_98 ?_
            refine z_top hn6 ?_
            exact z_iret hQ hz hr hlk dX10_feed_99 (by
              have e9 : sFeed g word (nI j) = (0, nI (n0 + k), h) := by simp only [sFeed]; rw [if_pos c1, hn0, tn0, t_j, if_neg (by omega), show j = k by omega, ← hh]
              rw [e9]; exact ⟨congrArg (fun z => some (Value.int z)) rOf_0.symm, rfl⟩)
          · refine z_aload_n hz dX10_feed_47 0 rfl rfl ?_
            refine z_get (C := RX10) (T := TX10) (N := 29) hz in_X10 (zAt.mt 0 0 rfl rfl) rfl 0 (by decide) q1929 (fun _ h9 => h9) rfl dX10_feed_48 ?_
            refine z_sipush hz 324 dX10_feed_51 ks_324 ?_
            refine z_aload_n hz dX10_feed_54 0 rfl rfl ?_
            refine z_get (C := RX10) (T := TX10) (N := 29) hz in_X10 (zAt.mt 0 0 rfl rfl) rfl 0 (by decide) q1929 (fun _ h9 => h9) rfl dX10_feed_55 ?_
            refine z_bipush hz 6 dX10_feed_58 kb_6 ?_
            refine z_iald hz (zAt.mt 1 0 rfl rfl) kn_6 (by decide) (by decide) dX10_feed_60 ?_
            refine z_top hn6 ?_
            refine z_iaddN hz kn_324 rfl dX10_feed_61 ?_
            refine z_lload_n hz dX10_feed_62 1 rfl rfl ?_
            refine z_bipush hz 8 dX10_feed_63 kb_8 ?_
            refine z_iload hz dX10_feed_65 3 rfl ?_
            refine z_imulN hz kn_8 rfl dX10_feed_67 ?_
            refine z_lshr hz dX10_feed_68 ?_
            refine z_ldc2 hz q2149 dX10_feed_69 ?_
            refine z_land hz dX10_feed_72 ?_
            refine z_l2i hz dX10_feed_73 ?_
            refine z_iast hz 1 0 rfl rfl rfl (by omega) (by decide) dX10_feed_74 ?_
            refine z_bs (bs2 := [zO (ad 99) 10 (mFs ad iv), zI (G.2.2.1 0) (ad 0) 602 (upd h (324 + (n0 + k)) (((word >>> ((nI (8 * k)).toInt64 &&& 63)) &&& 255).toInt32)), zI (G.2.2.1 0) (ad 4) 6 er]) rfl ?_
            refine z_aload_n hz dX10_feed_75 0 rfl rfl ?_
            refine z_get (C := RX10) (T := TX10) (N := 29) hz in_X10 (zAt.mt 0 0 rfl rfl) rfl 0 (by decide) q1929 (fun _ h9 => h9) rfl dX10_feed_76 ?_
            refine z_bipush hz 6 dX10_feed_79 kb_6 ?_
            refine z_dup2 hz dX10_feed_81 rfl rfl ?_
            refine z_iald hz (zAt.mt 1 0 rfl rfl) kn_6 (by decide) (by decide) dX10_feed_82 ?_
            refine z_top (ld_ne (by omega) hn6) ?_
            refine z_iconst hz 1 dX10_feed_83 ki_1 ?_
            refine z_iaddN hz rfl kn_1 dX10_feed_84 ?_
            refine z_iast hz 1 0 rfl rfl kn_6 (by decide) (by decide) dX10_feed_85 ?_
            refine z_bs (bs2 := [zO (ad 99) 10 (mFs ad iv), zI (G.2.2.1 0) (ad 0) 602 (upd (upd h (324 + (n0 + k)) (((word >>> ((nI (8 * k)).toInt64 &&& 63)) &&& 255).toInt32)) 6 (nI ((n0 + k) + 1))), zI (G.2.2.1 0) (ad 4) 6 er]) rfl ?_
            refine z_iinc (lv' := [(0, .ref (ad 99)), (1, .long word), (3, .int (nI j)), (4, .int (nI (k + 1)))]) hz (nI (k + 1)) 3 [1, 2, 3, 0] dX10_feed_86 rfl (nI_1 _) (by decide) rfl ?_
            refine z_goto hz 41 dX10_feed_89 (by decide) ?_
            exact ih_41 (k + 1) (upd (upd h (324 + (n0 + k)) (((word >>> ((nI (8 * k)).toInt64 &&& 63)) &&& 255).toInt32)) 6 (nI ((n0 + k) + 1))) (by omega) (by rw [hh]; rfl) (by omega)
      exact lp_41 ((j - 0) + 1) 0 g (Nat.zero_le _) rfl (Nat.lt_succ_self _)
    · refine z_aload_n hz dX10_feed_31 0 rfl rfl ?_
      refine z_ldc hz q2044 dX10_feed_32 ?_
      refine z_callD (bs2 := [zO (ad 99) 10 (mFs ad iv), zI (G.2.2.1 0) (ad 0) 602 g, zI (G.2.2.1 0) (ad 4) 6 (upd er 4 (er 4 + 1))]) (st2 := [.int (-1000004)]) hz hA (zk_V hz (rm := (zRm 0 0 0 0)) (As := [.int (-1000004)]) (rest := []) 1 q2032 q2034 qs35 q95 q2035 (by decide +kernel) ⟨Nat.le_of_ble_eq_true rfl, Nat.le_of_ble_eq_true rfl⟩ ⟨Nat.le_of_ble_eq_true rfl, Nat.le_of_ble_eq_true rfl⟩ (zRecv (q := (RX10, TX10, 29)) hz (zAt.mt 0 0 rfl rfl) rfl) rfl rfl (Nat.le_of_ble_eq_true rfl) dX10_feed_34) (mM_finding ad iv er (-1000004) 4 (by decide) (by decide)) [0, 2] rfl (by decide) rfl rfl ?_
      exact z_iret hQ hz hr hlk dX10_feed_37 (by
        have e9 : sFeed g word (nI j) = (4, 0, g) := by simp [sFeed, inR, nI_clamp, c1, c2, t_j, hn0, tn0]
        rw [e9]; exact ⟨congrArg (fun z => some (Value.int z)) rE4, rfl⟩)
  · refine z_aload_n hz dX10_feed_10 0 rfl rfl ?_
    refine z_ldc hz q2031 dX10_feed_11 ?_
    refine z_callD (bs2 := [zO (ad 99) 10 (mFs ad iv), zI (G.2.2.1 0) (ad 0) 602 g, zI (G.2.2.1 0) (ad 4) 6 (upd er 1 (er 1 + 1))]) (st2 := [.int (-1000001)]) hz hA (zk_V hz (rm := (zRm 0 0 0 0)) (As := [.int (-1000001)]) (rest := []) 1 q2032 q2034 qs35 q95 q2035 (by decide +kernel) ⟨Nat.le_of_ble_eq_true rfl, Nat.le_of_ble_eq_true rfl⟩ ⟨Nat.le_of_ble_eq_true rfl, Nat.le_of_ble_eq_true rfl⟩ (zRecv (q := (RX10, TX10, 29)) hz (zAt.mt 0 0 rfl rfl) rfl) rfl rfl (Nat.le_of_ble_eq_true rfl) dX10_feed_13) (mM_finding ad iv er (-1000001) 1 (by decide) (by decide)) [0, 2] rfl (by decide) rfl rfl ?_
    exact z_iret hQ hz hr hlk dX10_feed_16 (by
      have e9 : sFeed g word nn = (1, 0, g) := by simp [sFeed, inR, nI_clamp, c1, hn0, tn0]
      rw [e9]; exact ⟨congrArg (fun z => some (Value.int z)) rE1, rfl⟩)
