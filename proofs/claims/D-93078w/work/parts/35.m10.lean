set_option maxRecDepth 100000
theorem rd_ge {x : Int32} (h : -2 ≤ x) (h1 : ¬ x = -2) (h2 : ¬ x = -1) : ¬ x < 0 := fun h9 => by
  have e1 := Int32.le_iff_toInt_le.mp h
  have e2 := Int32.lt_iff_toInt_lt.mp h9
  have z1 : (-2 : Int32).toInt = -2 := by decide
  have z2 : (-1 : Int32).toInt = -1 := by decide
  have z3 : (0 : Int32).toInt = 0 := by decide
  have d1 : ¬ x.toInt = -2 := fun q => h1 (Int32.toInt_inj.mp (q.trans z1.symm))
  have d2 : ¬ x.toInt = -1 := fun q => h2 (Int32.toInt_inj.mp (q.trans z2.symm))
  omega
theorem all_s {P : Nat → Prop} {k : Nat} (h : ∀ q, q < k → P q) (hk : P k) : ∀ q, q < k + 1 → P q := fun q hq => by
  rcases Nat.lt_succ_iff_lt_or_eq.mp hq with h1 | h1
  · exact h q h1
  · rw [h1]; exact hk
set_option maxHeartbeats 4000000 in
theorem mM_say {G : zG} (ad : Nat → Nat) (iv g er wd sz nb : Nat → Int32) (sheet : Int32) (nw : Nat) (hnw : g 7 = nI nw) (h20 : nw ≤ 20) : zMet G yX10_say (ws_ yX10_say cX10_say 8 (some .int)) (zRm 2 0 0 60) [.ref (ad 99), .int sheet] [zO (ad 99) 10 (mFs ad iv), zI (G.2.2.1 0) (ad 0) 602 g, zI (G.2.2.1 0) (ad 4) 6 er, zI (G.2.2.1 0) (ad 25) 4 wd, zI (G.2.2.1 0) (ad 26) 4 sz, zI (G.2.2.1 0) (ad 27) 160 nb] (fun v9 b9 => v9 = some (.int (rT (sSay g wd sz nb sheet))) ∧ b9 = [zO (ad 99) 10 (mFs ad iv), zI (G.2.2.1 0) (ad 0) 602 (upd g 7 0), zI (G.2.2.1 0) (ad 4) 6 (eT er (sSay g wd sz nb sheet)), zI (G.2.2.1 0) (ad 25) 4 ((sSay g wd sz nb sheet).2.2.1), zI (G.2.2.1 0) (ad 26) 4 ((sSay g wd sz nb sheet).2.2.2.1), zI (G.2.2.1 0) (ad 27) 160 ((sSay g wd sz nb sheet).2.2.2.2)]) := by
  refine zMet.of (by decide +kernel) (Nat.le_of_ble_eq_true rfl) ?_
  intro p e s m args below meth c A hz hA hr hlk hnm9 Q hQ
  refine z_lv (lv' := [(0, .ref (ad 99)), (1, .int sheet)]) [0, 1] rfl ?_
  have tnw : tN (nI nw) = nw := nI_clamp (by omega)
  refine z_aload_n hz dX10_say_0 0 rfl rfl ?_
  refine z_get (C := RX10) (T := TX10) (N := 29) hz in_X10 (zAt.mt 0 0 rfl rfl) rfl 0 (by decide) q1929 (fun _ h9 => h9) rfl dX10_say_1 ?_
  refine z_bipush hz 7 dX10_say_4 kb_7 ?_
  refine z_iald hz (zAt.mt 1 0 rfl rfl) kn_7 (by decide) (by decide) dX10_say_6 ?_
  refine z_top hnw ?_
  refine z_istore_n (lv' := [(0, .ref (ad 99)), (1, .int sheet), (2, .int (nI nw))]) hz [1, 2, 0] dX10_say_7 rfl (by decide) rfl ?_
  refine z_aload_n hz dX10_say_8 0 rfl rfl ?_
  refine z_get (C := RX10) (T := TX10) (N := 29) hz in_X10 (zAt.mt 0 0 rfl rfl) rfl 0 (by decide) q1929 (fun _ h9 => h9) rfl dX10_say_9 ?_
  refine z_bipush hz 7 dX10_say_12 kb_7 ?_
  refine z_iconst hz 0 dX10_say_14 ki_0 ?_
  refine z_iast hz 1 0 rfl rfl kn_7 (by decide) (by decide) dX10_say_15 ?_
  refine z_bs (bs2 := [zO (ad 99) 10 (mFs ad iv), zI (G.2.2.1 0) (ad 0) 602 (upd g 7 0), zI (G.2.2.1 0) (ad 4) 6 er, zI (G.2.2.1 0) (ad 25) 4 wd, zI (G.2.2.1 0) (ad 26) 4 sz, zI (G.2.2.1 0) (ad 27) 160 nb]) rfl ?_
  generalize hh : upd g 7 0 = h
  refine z_iload_n hz dX10_say_16 1 rfl rfl ?_
  refine z_callRD (st2 := [.int (zB (inR sheet 0 3))]) hz zKp.mt (zk_S hz (rm := (zRm 1 0 0 30)) (As := [.int sheet]) (rest := []) 1 q2356 q2357 q95 q2358 (by decide +kernel) ⟨Nat.le_of_ble_eq_true rfl, Nat.le_of_ble_eq_true rfl⟩ ⟨Nat.le_of_ble_eq_true rfl, Nat.le_of_ble_eq_true rfl⟩ rfl rfl (Nat.le_of_ble_eq_true rfl) dX10_say_17) (mM_isSheet sheet) (fun _ _ _ => zP0) rfl ?_
  refine z_ifB_ne hz 30 dX10_say_20 (by decide) (fun c1 => ?_) (fun c1 => ?_)
  · obtain ⟨j, j_lo, j_hi, rfl⟩ := inR_nat 0 3 kn_0 kn_3 (by decide) (by decide) c1
    have t_j : tN (nI j) = j := nI_clamp (by omega)
    refine z_iconst hz 0 dX10_say_30 ki_0 ?_
    refine z_istore_n (lv' := [(0, .ref (ad 99)), (1, .int (nI j)), (2, .int (nI nw)), (3, .int 0)]) hz [1, 2, 3, 0] dX10_say_31 rfl (by decide) rfl ?_
    refine z_iconst hz 0 dX10_say_32 ki_0 ?_
    refine z_istore (lv' := [(0, .ref (ad 99)), (1, .int (nI j)), (2, .int (nI nw)), (3, .int 0), (4, .int 0)]) hz [1, 2, 3, 4, 0] dX10_say_33 (by decide) rfl ?_
    have lp_35 : ∀ (n9 : Nat) (k : Nat) (sm : Nat), k ≤ nw → (∀ q9, q9 < k → inR (h (374 + q9)) 0 24) → sm = saySum h k → sm ≤ 12 * k → nw - k < n9 → zW p G.1 e (zRm 2 0 0 60) s m args below meth c 8 Q 0 0 (zΦ G A s [zO (ad 99) 10 (mFs ad iv), zI (G.2.2.1 0) (ad 0) 602 h, zI (G.2.2.1 0) (ad 4) 6 er, zI (G.2.2.1 0) (ad 25) 4 wd, zI (G.2.2.1 0) (ad 26) 4 sz, zI (G.2.2.1 0) (ad 27) 160 nb]) 35 [(0, .ref (ad 99)), (1, .int (nI j)), (2, .int (nI nw)), (3, .int (nI sm)), (4, .int (nI k))] [] := by
      intro n9
      induction n9 with
      | zero => intro _ _ _ _ _ _ hm; exact absurd hm (Nat.not_lt_zero _)
      | succ n9 ih_35 =>
        intro k sm hk hall hs hsb hm_35
        refine z_iload hz dX10_say_35 4 rfl ?_
        refine z_iload_n hz dX10_say_37 2 rfl rfl ?_
        refine z_icmpN_ge hz rfl rfl (by omega) (by omega) 92 dX10_say_38 (by decide) (fun c2 => ?_) (fun c2 => ?_)
        · refine z_iload_n hz dX10_say_92 3 rfl rfl ?_
          refine z_bipush hz 40 dX10_say_93 kb_40 ?_
          refine z_icmpN_le hz rfl kn_40 (by omega) (by decide) 105 dX10_say_95 (by decide) (fun c3 => ?_) (fun c3 => ?_)
          · have hkw : nw = k := by omega
            have hs9 : sm = saySum h nw := by rw [hkw]; exact hs
            replace hall : ∀ q9, q9 < nw → inR (h (374 + q9)) 0 24 := by rw [hkw]; exact hall
            refine z_aload_n hz dX10_say_105 0 rfl rfl ?_
            refine z_get (C := RX10) (T := TX10) (N := 29) hz in_X10 (zAt.mt 0 0 rfl rfl) rfl 25 (by decide) q1954 (fun _ h9 => h9) rfl dX10_say_106 ?_
            refine z_iload_n hz dX10_say_109 1 rfl rfl ?_
            refine z_bipush hz 8 dX10_say_110 kb_8 ?_
            refine z_iast hz 3 0 rfl rfl rfl (by omega) (by decide) dX10_say_112 ?_
            refine z_bs (bs2 := [zO (ad 99) 10 (mFs ad iv), zI (G.2.2.1 0) (ad 0) 602 h, zI (G.2.2.1 0) (ad 4) 6 er, zI (G.2.2.1 0) (ad 25) 4 (upd wd j 8), zI (G.2.2.1 0) (ad 26) 4 sz, zI (G.2.2.1 0) (ad 27) 160 nb]) rfl ?_
            refine z_aload_n hz dX10_say_113 0 rfl rfl ?_
            refine z_get (C := RX10) (T := TX10) (N := 29) hz in_X10 (zAt.mt 0 0 rfl rfl) rfl 26 (by decide) q1955 (fun _ h9 => h9) rfl dX10_say_114 ?_
            refine z_iload_n hz dX10_say_117 1 rfl rfl ?_
            refine z_iload_n hz dX10_say_118 3 rfl rfl ?_
            refine z_iast hz 4 0 rfl rfl rfl (by omega) (by decide) dX10_say_119 ?_
            refine z_bs (bs2 := [zO (ad 99) 10 (mFs ad iv), zI (G.2.2.1 0) (ad 0) 602 h, zI (G.2.2.1 0) (ad 4) 6 er, zI (G.2.2.1 0) (ad 25) 4 (upd wd j 8), zI (G.2.2.1 0) (ad 26) 4 (upd sz j (nI sm)), zI (G.2.2.1 0) (ad 27) 160 nb]) rfl ?_
            refine z_iconst hz 0 dX10_say_120 ki_0 ?_
            refine z_istore (lv' := [(0, .ref (ad 99)), (1, .int (nI j)), (2, .int (nI nw)), (3, .int (nI sm)), (4, .int 0)]) hz [1, 2, 3, 4, 0] dX10_say_121 (by decide) rfl ?_
            have lp_123 : ∀ (n9 : Nat) (k2 : Nat) (nb2 : Nat → Int32), k2 ≤ 40 → nb2 = zeF nb j k2 → 40 - k2 < n9 → zW p G.1 e (zRm 2 0 0 60) s m args below meth c 8 Q 0 0 (zΦ G A s [zO (ad 99) 10 (mFs ad iv), zI (G.2.2.1 0) (ad 0) 602 h, zI (G.2.2.1 0) (ad 4) 6 er, zI (G.2.2.1 0) (ad 25) 4 (upd wd j 8), zI (G.2.2.1 0) (ad 26) 4 (upd sz j (nI sm)), zI (G.2.2.1 0) (ad 27) 160 nb2]) 123 [(0, .ref (ad 99)), (1, .int (nI j)), (2, .int (nI nw)), (3, .int (nI sm)), (4, .int (nI k2))] [] := by
              intro n9
              induction n9 with
              | zero => intro _ _ _ _ hm; exact absurd hm (Nat.not_lt_zero _)
              | succ n9 ih_123 =>
                intro k2 nb2 hk2 hn hm_123
                refine z_iload hz dX10_say_123 4 rfl ?_
                refine z_bipush hz 40 dX10_say_125 kb_40 ?_
                refine z_icmpN_ge hz rfl kn_40 (by omega) (by decide) 149 dX10_say_127 (by decide) (fun c4 => ?_) (fun c4 => ?_)
                · refine z_bipush hz 40 dX10_say_149 kb_40 ?_
                  refine z_iload_n hz dX10_say_151 1 rfl rfl ?_
                  refine z_imulN hz kn_40 rfl dX10_say_152 ?_
                  refine z_istore (lv' := [(0, .ref (ad 99)), (1, .int (nI j)), (2, .int (nI nw)), (3, .int (nI sm)), (4, .int (nI (40 * j)))]) hz [1, 2, 3, 4, 0] dX10_say_153 (by decide) rfl ?_
                  refine z_iconst hz 0 dX10_say_155 ki_0 ?_
                  refine z_istore (lv' := [(0, .ref (ad 99)), (1, .int (nI j)), (2, .int (nI nw)), (3, .int (nI sm)), (4, .int (nI (40 * j))), (5, .int 0)]) hz [1, 2, 3, 4, 5, 0] dX10_say_156 (by decide) rfl ?_
                  have lp_158 : ∀ (n9 : Nat) (q : Nat) (to : Nat) (nb3 : Nat → Int32), q ≤ 2 * nw → to = toF h (40 * j) q → nb3 = sayF h (zeF nb j 40) (40 * j) q → 2 * nw - q < n9 → zW p G.1 e (zRm 2 0 0 60) s m args below meth c 8 Q 0 0 (zΦ G A s [zO (ad 99) 10 (mFs ad iv), zI (G.2.2.1 0) (ad 0) 602 h, zI (G.2.2.1 0) (ad 4) 6 er, zI (G.2.2.1 0) (ad 25) 4 (upd wd j 8), zI (G.2.2.1 0) (ad 26) 4 (upd sz j (nI sm)), zI (G.2.2.1 0) (ad 27) 160 nb3]) 158 [(0, .ref (ad 99)), (1, .int (nI j)), (2, .int (nI nw)), (3, .int (nI sm)), (4, .int (nI to)), (5, .int (nI q))] [] := by
                    intro n9
                    induction n9 with
                    | zero => intro _ _ _ _ _ _ hm; exact absurd hm (Nat.not_lt_zero _)
                    | succ n9 ih_158 =>
                      intro q to nb3 hq hto hn3 hm_158
                      refine z_iload hz dX10_say_158 5 rfl ?_
                      refine z_iconst hz 2 dX10_say_160 ki_2 ?_
                      refine z_iload_n hz dX10_say_161 2 rfl rfl ?_
                      refine z_imulN hz kn_2 rfl dX10_say_162 ?_
                      refine z_icmpN_ge hz rfl rfl (by omega) (by omega) 232 dX10_say_163 (by decide) (fun c5 => ?_) (fun c5 => ?_)
                      · refine z_iload_n hz dX10_say_232 3 rfl rfl ?_
                        exact z_iret hQ hz hr hlk dX10_say_233 (by
                          have e9 : sSay g wd sz nb (nI j) = (0, nI sm, upd wd j 8, upd sz j (nI sm), nb3) := by rw [hn3, show q = 2 * nw by omega]; simp only [sSay]; rw [hh, hnw, tnw, if_pos c1, t_j, if_pos hall, ← hs9, if_neg (by omega)]
                          rw [e9, hh]; exact ⟨congrArg (fun z => some (Value.int z)) rOf_0.symm, rfl⟩)
                      · refine z_aload_n hz dX10_say_166 0 rfl rfl ?_
                        refine z_get (C := RX10) (T := TX10) (N := 29) hz in_X10 (zAt.mt 0 0 rfl rfl) rfl 0 (by decide) q1929 (fun _ h9 => h9) rfl dX10_say_167 ?_
                        refine z_sipush hz 374 dX10_say_170 ks_374 ?_
                        refine z_iload hz dX10_say_173 5 rfl ?_
                        refine z_iconst hz 2 dX10_say_175 ki_2 ?_
                        refine z_idivN hz rfl kn_2 (by omega) (by decide) (by decide) dX10_say_176 ?_
                        refine z_iaddN hz kn_374 rfl dX10_say_177 ?_
                        refine z_iald hz (zAt.mt 1 0 rfl rfl) rfl (by omega) (by decide) dX10_say_178 ?_
                        obtain ⟨l2, -, l2_hi, h_l2⟩ := inR_nat 0 24 kn_0 kn_24 (by decide) (by decide) (hall (q / 2) (by omega))
                        have t_l2 : tN (nI l2) = l2 := nI_clamp (by omega)
                        rw [h_l2]
                        have hlt := toF_lt (h := h) (base := 40 * j) (q := q) (k := nw) (by omega)
                        rw [← hto, ← hs9] at hlt
                        refine z_istore (lv' := [(0, .ref (ad 99)), (1, .int (nI j)), (2, .int (nI nw)), (3, .int (nI sm)), (4, .int (nI to)), (5, .int (nI q)), (6, .int (nI l2))]) hz [1, 2, 3, 4, 5, 6, 0] dX10_say_179 (by decide) rfl ?_
                        refine z_iload hz dX10_say_181 5 rfl ?_
                        refine z_iconst hz 2 dX10_say_183 ki_2 ?_
                        refine z_iremN hz rfl kn_2 (by omega) (by decide) (by decide) dX10_say_184 ?_
                        refine z_ifN_ne hz rfl (by omega) 195 dX10_say_185 (by decide) (fun c6 => ?_) (fun c6 => ?_)
                        · have hkn : knN h q = l2 % 5 + 1 := by unfold knN; rw [h_l2, t_l2, if_neg c6]
                          have hkb : knN h q ≤ 5 := by omega
                          refine z_iload hz dX10_say_195 6 rfl ?_
                          refine z_iconst hz 5 dX10_say_197 ki_5 ?_
                          refine z_iremN hz rfl kn_5 (by omega) (by decide) (by decide) dX10_say_198 ?_
                          refine z_istore (lv' := [(0, .ref (ad 99)), (1, .int (nI j)), (2, .int (nI nw)), (3, .int (nI sm)), (4, .int (nI to)), (5, .int (nI q)), (6, .int (nI l2)), (7, .int (nI (l2 % 5)))]) hz [1, 2, 3, 4, 5, 6, 7, 0] dX10_say_199 (by decide) rfl ?_
                          have lp_201 : ∀ (n9 : Nat) (rr : Nat) (x : Int32) (to2 : Nat) (nb4 : Nat → Int32), rr ≤ knN h q → x = nI rr - 1 → to2 = to + (knN h q - rr) → nb4 = onesF nb3 to (knN h q - rr) → rr < n9 → zW p G.1 e (zRm 2 0 0 60) s m args below meth c 8 Q 0 0 (zΦ G A s [zO (ad 99) 10 (mFs ad iv), zI (G.2.2.1 0) (ad 0) 602 h, zI (G.2.2.1 0) (ad 4) 6 er, zI (G.2.2.1 0) (ad 25) 4 (upd wd j 8), zI (G.2.2.1 0) (ad 26) 4 (upd sz j (nI sm)), zI (G.2.2.1 0) (ad 27) 160 nb4]) 201 [(0, .ref (ad 99)), (1, .int (nI j)), (2, .int (nI nw)), (3, .int (nI sm)), (4, .int (nI to2)), (5, .int (nI q)), (6, .int (nI l2)), (7, .int x)] [] := by
                            intro n9
                            induction n9 with
                            | zero => intro _ _ _ _ _ _ _ _ hm; exact absurd hm (Nat.not_lt_zero _)
                            | succ n9 ih_201 =>
                              intro rr x to2 nb4 hrr hx ht2 hn4 hm_201
                              refine z_iload hz dX10_say_201 7 rfl ?_
                              refine z_if_lt hz 223 dX10_say_203 (by decide) (fun c7 => ?_) (fun c7 => ?_)
                              · have hr0 : rr = 0 := (rx_neg hx (by omega)).mp c7
                                refine z_iinc (lv' := [(0, .ref (ad 99)), (1, .int (nI j)), (2, .int (nI nw)), (3, .int (nI sm)), (4, .int (nI (to2 + 1))), (5, .int (nI q)), (6, .int (nI l2)), (7, .int x)]) hz (nI (to2 + 1)) 4 [1, 2, 3, 4, 0, 5, 6, 7] dX10_say_223 rfl (nI_1 _) (by decide) rfl ?_
                                refine z_iinc (lv' := [(0, .ref (ad 99)), (1, .int (nI j)), (2, .int (nI nw)), (3, .int (nI sm)), (4, .int (nI (to2 + 1))), (5, .int (nI (q + 1))), (6, .int (nI l2)), (7, .int x)]) hz (nI (q + 1)) 5 [1, 2, 3, 4, 5, 0, 6, 7] dX10_say_226 rfl (nI_1 _) (by decide) rfl ?_
                                refine z_goto hz 158 dX10_say_229 (by decide) ?_
                                refine z_lv [0, 1, 2, 3, 4, 5] rfl ?_
                                exact ih_158 (q + 1) (to2 + 1) nb4 (by omega) (by simp only [toF]; omega) (by simp only [sayF]; rw [← hn3, ← hto, hn4, show knN h q - rr = knN h q by omega]) (by omega)
                              · have hr0 : ¬ rr = 0 := fun h9 => c7 ((rx_neg hx (by omega)).mpr h9)
                                refine z_aload_n hz dX10_say_206 0 rfl rfl ?_
                                refine z_get (C := RX10) (T := TX10) (N := 29) hz in_X10 (zAt.mt 0 0 rfl rfl) rfl 27 (by decide) q1956 (fun _ h9 => h9) rfl dX10_say_207 ?_
                                refine z_iload hz dX10_say_210 4 rfl ?_
                                refine z_iconst hz 1 dX10_say_212 ki_1 ?_
                                refine z_iast hz 5 0 rfl rfl rfl (by omega) (by decide) dX10_say_213 ?_
                                refine z_bs (bs2 := [zO (ad 99) 10 (mFs ad iv), zI (G.2.2.1 0) (ad 0) 602 h, zI (G.2.2.1 0) (ad 4) 6 er, zI (G.2.2.1 0) (ad 25) 4 (upd wd j 8), zI (G.2.2.1 0) (ad 26) 4 (upd sz j (nI sm)), zI (G.2.2.1 0) (ad 27) 160 (upd nb4 to2 1)]) rfl ?_
                                refine z_iinc (lv' := [(0, .ref (ad 99)), (1, .int (nI j)), (2, .int (nI nw)), (3, .int (nI sm)), (4, .int (nI (to2 + 1))), (5, .int (nI q)), (6, .int (nI l2)), (7, .int x)]) hz (nI (to2 + 1)) 4 [1, 2, 3, 4, 0, 5, 6, 7] dX10_say_214 rfl (nI_1 _) (by decide) rfl ?_
                                refine z_iinc (lv' := [(0, .ref (ad 99)), (1, .int (nI j)), (2, .int (nI nw)), (3, .int (nI sm)), (4, .int (nI (to2 + 1))), (5, .int (nI q)), (6, .int (nI l2)), (7, .int (x + (-1)))]) hz (x + (-1)) 7 [1, 2, 3, 4, 5, 6, 7, 0] dX10_say_217 rfl rfl (by decide) rfl ?_
                                refine z_goto hz 201 dX10_say_220 (by decide) ?_
                                exact ih_201 (rr - 1) (x + (-1)) (to2 + 1) (upd nb4 to2 1) (by omega) (by rw [hx]; exact rx_dec (by omega) (by omega)) (by omega) (by rw [hn4, show knN h q - (rr - 1) = (knN h q - rr) + 1 by omega]; simp only [onesF]; rw [ht2]) (by omega)
                          exact lp_201 (((knN h q)) + 1) (knN h q) (nI (l2 % 5)) to nb3 (Nat.le_refl _) (by rw [hkn]; exact rx_in (by omega)) (by omega) (by rw [Nat.sub_self]; rfl) (Nat.lt_succ_self _)
                        · have hkn : knN h q = l2 / 5 + 1 := by unfold knN; rw [h_l2, t_l2, if_pos c6]
                          have hkb : knN h q ≤ 5 := by omega
                          refine z_iload hz dX10_say_188 6 rfl ?_
                          refine z_iconst hz 5 dX10_say_190 ki_5 ?_
                          refine z_idivN hz rfl kn_5 (by omega) (by decide) (by decide) dX10_say_191 ?_
                          refine z_goto hz 199 dX10_say_192 (by decide) ?_
                          refine z_istore (lv' := [(0, .ref (ad 99)), (1, .int (nI j)), (2, .int (nI nw)), (3, .int (nI sm)), (4, .int (nI to)), (5, .int (nI q)), (6, .int (nI l2)), (7, .int (nI (l2 / 5)))]) hz [1, 2, 3, 4, 5, 6, 7, 0] dX10_say_199 (by decide) rfl ?_
                          have lp_201 : ∀ (n9 : Nat) (rr : Nat) (x : Int32) (to2 : Nat) (nb4 : Nat → Int32), rr ≤ knN h q → x = nI rr - 1 → to2 = to + (knN h q - rr) → nb4 = onesF nb3 to (knN h q - rr) → rr < n9 → zW p G.1 e (zRm 2 0 0 60) s m args below meth c 8 Q 0 0 (zΦ G A s [zO (ad 99) 10 (mFs ad iv), zI (G.2.2.1 0) (ad 0) 602 h, zI (G.2.2.1 0) (ad 4) 6 er, zI (G.2.2.1 0) (ad 25) 4 (upd wd j 8), zI (G.2.2.1 0) (ad 26) 4 (upd sz j (nI sm)), zI (G.2.2.1 0) (ad 27) 160 nb4]) 201 [(0, .ref (ad 99)), (1, .int (nI j)), (2, .int (nI nw)), (3, .int (nI sm)), (4, .int (nI to2)), (5, .int (nI q)), (6, .int (nI l2)), (7, .int x)] [] := by
                            intro n9
                            induction n9 with
                            | zero => intro _ _ _ _ _ _ _ _ hm; exact absurd hm (Nat.not_lt_zero _)
                            | succ n9 ih_201 =>
                              intro rr x to2 nb4 hrr hx ht2 hn4 hm_201
                              refine z_iload hz dX10_say_201 7 rfl ?_
                              refine z_if_lt hz 223 dX10_say_203 (by decide) (fun c8 => ?_) (fun c8 => ?_)
                              · have hr0 : rr = 0 := (rx_neg hx (by omega)).mp c8
                                refine z_iinc (lv' := [(0, .ref (ad 99)), (1, .int (nI j)), (2, .int (nI nw)), (3, .int (nI sm)), (4, .int (nI (to2 + 1))), (5, .int (nI q)), (6, .int (nI l2)), (7, .int x)]) hz (nI (to2 + 1)) 4 [1, 2, 3, 4, 0, 5, 6, 7] dX10_say_223 rfl (nI_1 _) (by decide) rfl ?_
                                refine z_iinc (lv' := [(0, .ref (ad 99)), (1, .int (nI j)), (2, .int (nI nw)), (3, .int (nI sm)), (4, .int (nI (to2 + 1))), (5, .int (nI (q + 1))), (6, .int (nI l2)), (7, .int x)]) hz (nI (q + 1)) 5 [1, 2, 3, 4, 5, 0, 6, 7] dX10_say_226 rfl (nI_1 _) (by decide) rfl ?_
                                refine z_goto hz 158 dX10_say_229 (by decide) ?_
                                refine z_lv [0, 1, 2, 3, 4, 5] rfl ?_
                                exact ih_158 (q + 1) (to2 + 1) nb4 (by omega) (by simp only [toF]; omega) (by simp only [sayF]; rw [← hn3, ← hto, hn4, show knN h q - rr = knN h q by omega]) (by omega)
                              · have hr0 : ¬ rr = 0 := fun h9 => c8 ((rx_neg hx (by omega)).mpr h9)
                                refine z_aload_n hz dX10_say_206 0 rfl rfl ?_
                                refine z_get (C := RX10) (T := TX10) (N := 29) hz in_X10 (zAt.mt 0 0 rfl rfl) rfl 27 (by decide) q1956 (fun _ h9 => h9) rfl dX10_say_207 ?_
                                refine z_iload hz dX10_say_210 4 rfl ?_
                                refine z_iconst hz 1 dX10_say_212 ki_1 ?_
                                refine z_iast hz 5 0 rfl rfl rfl (by omega) (by decide) dX10_say_213 ?_
                                refine z_bs (bs2 := [zO (ad 99) 10 (mFs ad iv), zI (G.2.2.1 0) (ad 0) 602 h, zI (G.2.2.1 0) (ad 4) 6 er, zI (G.2.2.1 0) (ad 25) 4 (upd wd j 8), zI (G.2.2.1 0) (ad 26) 4 (upd sz j (nI sm)), zI (G.2.2.1 0) (ad 27) 160 (upd nb4 to2 1)]) rfl ?_
                                refine z_iinc (lv' := [(0, .ref (ad 99)), (1, .int (nI j)), (2, .int (nI nw)), (3, .int (nI sm)), (4, .int (nI (to2 + 1))), (5, .int (nI q)), (6, .int (nI l2)), (7, .int x)]) hz (nI (to2 + 1)) 4 [1, 2, 3, 4, 0, 5, 6, 7] dX10_say_214 rfl (nI_1 _) (by decide) rfl ?_
                                refine z_iinc (lv' := [(0, .ref (ad 99)), (1, .int (nI j)), (2, .int (nI nw)), (3, .int (nI sm)), (4, .int (nI (to2 + 1))), (5, .int (nI q)), (6, .int (nI l2)), (7, .int (x + (-1)))]) hz (x + (-1)) 7 [1, 2, 3, 4, 5, 6, 7, 0] dX10_say_217 rfl rfl (by decide) rfl ?_
                                refine z_goto hz 201 dX10_say_220 (by decide) ?_
                                exact ih_201 (rr - 1) (x + (-1)) (to2 + 1) (upd nb4 to2 1) (by omega) (by rw [hx]; exact rx_dec (by omega) (by omega)) (by omega) (by rw [hn4, show knN h q - (rr - 1) = (knN h q - rr) + 1 by omega]; simp only [onesF]; rw [ht2]) (by omega)
                          exact lp_201 (((knN h q)) + 1) (knN h q) (nI (l2 / 5)) to nb3 (Nat.le_refl _) (by rw [hkn]; exact rx_in (by omega)) (by omega) (by rw [Nat.sub_self]; rfl) (Nat.lt_succ_self _)
                  exact lp_158 ((2 * nw - 0) + 1) 0 (40 * j) nb2 (Nat.zero_le _) rfl (by rw [hn, show k2 = 40 by omega]; rfl) (Nat.lt_succ_self _)
                · refine z_aload_n hz dX10_say_130 0 rfl rfl ?_
                  refine z_get (C := RX10) (T := TX10) (N := 29) hz in_X10 (zAt.mt 0 0 rfl rfl) rfl 27 (by decide) q1956 (fun _ h9 => h9) rfl dX10_say_131 ?_
                  refine z_bipush hz 40 dX10_say_134 kb_40 ?_
                  refine z_iload_n hz dX10_say_136 1 rfl rfl ?_
                  refine z_imulN hz kn_40 rfl dX10_say_137 ?_
                  refine z_iload hz dX10_say_138 4 rfl ?_
                  refine z_iaddN hz rfl rfl dX10_say_140 ?_
                  refine z_iconst hz 0 dX10_say_141 ki_0 ?_
                  refine z_iast hz 5 0 rfl rfl rfl (by omega) (by decide) dX10_say_142 ?_
                  refine z_bs (bs2 := [zO (ad 99) 10 (mFs ad iv), zI (G.2.2.1 0) (ad 0) 602 h, zI (G.2.2.1 0) (ad 4) 6 er, zI (G.2.2.1 0) (ad 25) 4 (upd wd j 8), zI (G.2.2.1 0) (ad 26) 4 (upd sz j (nI sm)), zI (G.2.2.1 0) (ad 27) 160 (upd nb2 ((40 * j) + k2) 0)]) rfl ?_
                  refine z_iinc (lv' := [(0, .ref (ad 99)), (1, .int (nI j)), (2, .int (nI nw)), (3, .int (nI sm)), (4, .int (nI (k2 + 1)))]) hz (nI (k2 + 1)) 4 [1, 2, 3, 4, 0] dX10_say_143 rfl (nI_1 _) (by decide) rfl ?_
                  refine z_goto hz 123 dX10_say_146 (by decide) ?_
                  exact ih_123 (k2 + 1) (upd nb2 ((40 * j) + k2) 0) (by omega) (by simp only [zeF]; rw [← hn]) (by omega)
            exact lp_123 ((40 - 0) + 1) 0 nb (Nat.zero_le _) rfl (Nat.lt_succ_self _)
          · refine z_aload_n hz dX10_say_98 0 rfl rfl ?_
            refine z_ldc hz q2061 dX10_say_99 ?_
            refine z_callD (bs2 := [zO (ad 99) 10 (mFs ad iv), zI (G.2.2.1 0) (ad 0) 602 h, zI (G.2.2.1 0) (ad 4) 6 (upd er 3 (er 3 + 1)), zI (G.2.2.1 0) (ad 25) 4 wd, zI (G.2.2.1 0) (ad 26) 4 sz, zI (G.2.2.1 0) (ad 27) 160 nb]) (st2 := [.int (-1000003)]) hz hA (zk_V hz (rm := (zRm 0 0 0 0)) (As := [.int (-1000003)]) (rest := []) 1 q2032 q2034 qs35 q95 q2035 (by decide +kernel) ⟨Nat.le_of_ble_eq_true rfl, Nat.le_of_ble_eq_true rfl⟩ ⟨Nat.le_of_ble_eq_true rfl, Nat.le_of_ble_eq_true rfl⟩ (zRecv (q := (RX10, TX10, 29)) hz (zAt.mt 0 0 rfl rfl) rfl) rfl rfl (Nat.le_of_ble_eq_true rfl) dX10_say_101) (mM_finding ad iv er (-1000003) 3 (by decide) (by decide)) [0, 2] rfl (by decide) rfl rfl ?_
            exact z_iret hQ hz hr hlk dX10_say_104 (by
              have e9 : sSay g wd sz nb (nI j) = (3, 0, wd, sz, nb) := by simp only [sSay]; rw [hh, hnw, tnw, if_pos c1, t_j, if_pos (by rw [show nw = k by omega]; exact hall), if_pos (by rw [show nw = k by omega, ← hs]; omega)]
              rw [e9, hh]; exact ⟨congrArg (fun z => some (Value.int z)) rE3, rfl⟩)
        · refine z_aload_n hz dX10_say_41 0 rfl rfl ?_
          refine z_get (C := RX10) (T := TX10) (N := 29) hz in_X10 (zAt.mt 0 0 rfl rfl) rfl 0 (by decide) q1929 (fun _ h9 => h9) rfl dX10_say_42 ?_
          refine z_sipush hz 374 dX10_say_45 ks_374 ?_
          refine z_iload hz dX10_say_48 4 rfl ?_
          refine z_iaddN hz kn_374 rfl dX10_say_50 ?_
          refine z_iald hz (zAt.mt 1 0 rfl rfl) rfl (by omega) (by decide) dX10_say_51 ?_
          refine z_istore (lv' := [(0, .ref (ad 99)), (1, .int (nI j)), (2, .int (nI nw)), (3, .int (nI sm)), (4, .int (nI k)), (5, .int (h (374 + k)))]) hz [1, 2, 3, 4, 5, 0] dX10_say_52 (by decide) rfl ?_
          refine z_iload hz dX10_say_54 5 rfl ?_
          refine z_iconst hz 0 dX10_say_56 ki_0 ?_
          refine z_bipush hz 24 dX10_say_57 kb_24 ?_
          refine z_callRD (st2 := [.int (zB (inR (h (374 + k)) 0 24))]) hz zKp.mt (zk_S hz (rm := (zRm 0 0 0 0)) (As := [.int (h (374 + k)), .int 0, .int 24]) (rest := []) 3 q2023 q2024 q95 q2025 (by decide +kernel) ⟨Nat.le_of_ble_eq_true rfl, Nat.le_of_ble_eq_true rfl⟩ ⟨Nat.le_of_ble_eq_true rfl, Nat.le_of_ble_eq_true rfl⟩ rfl rfl (Nat.le_of_ble_eq_true rfl) dX10_say_59) (mM_within (h (374 + k)) 0 24) (fun _ _ _ => zP0) rfl ?_
          refine z_ifB_ne hz 72 dX10_say_62 (by decide) (fun c9 => ?_) (fun c9 => ?_)
          · obtain ⟨l, l_lo, l_hi, h_l⟩ := inR_nat 0 24 kn_0 kn_24 (by decide) (by decide) c9
            have t_l : tN (nI l) = l := nI_clamp (by omega)
            rw [h_l]
            refine z_iload_n hz dX10_say_72 3 rfl rfl ?_
            refine z_iload hz dX10_say_73 5 rfl ?_
            refine z_iconst hz 5 dX10_say_75 ki_5 ?_
            refine z_idivN hz rfl kn_5 (by omega) (by decide) (by decide) dX10_say_76 ?_
            refine z_iload hz dX10_say_77 5 rfl ?_
            refine z_iconst hz 5 dX10_say_79 ki_5 ?_
            refine z_iremN hz rfl kn_5 (by omega) (by decide) (by decide) dX10_say_80 ?_
            refine z_iaddN hz rfl rfl dX10_say_81 ?_
            refine z_iconst hz 4 dX10_say_82 ki_4 ?_
            refine z_iaddN hz rfl kn_4 dX10_say_83 ?_
            refine z_iaddN hz rfl rfl dX10_say_84 ?_
            refine z_istore_n (lv' := [(0, .ref (ad 99)), (1, .int (nI j)), (2, .int (nI nw)), (3, .int (nI (sm + (((l / 5) + (l % 5)) + 4)))), (4, .int (nI k)), (5, .int (nI l))]) hz [1, 2, 3, 0, 4, 5] dX10_say_85 rfl (by decide) rfl ?_
            refine z_iinc (lv' := [(0, .ref (ad 99)), (1, .int (nI j)), (2, .int (nI nw)), (3, .int (nI (sm + (((l / 5) + (l % 5)) + 4)))), (4, .int (nI (k + 1))), (5, .int (nI l))]) hz (nI (k + 1)) 4 [1, 2, 3, 4, 0, 5] dX10_say_86 rfl (nI_1 _) (by decide) rfl ?_
            refine z_goto hz 35 dX10_say_89 (by decide) ?_
            refine z_lv [0, 1, 2, 3, 4] rfl ?_
            exact ih_35 (k + 1) (sm + (((l / 5) + (l % 5)) + 4)) (by omega) (all_s hall (by assumption)) (by simp only [saySum]; rw [← hs, h_l, t_l]) (by omega) (by omega)
          · refine z_aload_n hz dX10_say_65 0 rfl rfl ?_
            refine z_ldc hz q2061 dX10_say_66 ?_
            refine z_callD (bs2 := [zO (ad 99) 10 (mFs ad iv), zI (G.2.2.1 0) (ad 0) 602 h, zI (G.2.2.1 0) (ad 4) 6 (upd er 3 (er 3 + 1)), zI (G.2.2.1 0) (ad 25) 4 wd, zI (G.2.2.1 0) (ad 26) 4 sz, zI (G.2.2.1 0) (ad 27) 160 nb]) (st2 := [.int (-1000003)]) hz hA (zk_V hz (rm := (zRm 0 0 0 0)) (As := [.int (-1000003)]) (rest := []) 1 q2032 q2034 qs35 q95 q2035 (by decide +kernel) ⟨Nat.le_of_ble_eq_true rfl, Nat.le_of_ble_eq_true rfl⟩ ⟨Nat.le_of_ble_eq_true rfl, Nat.le_of_ble_eq_true rfl⟩ (zRecv (q := (RX10, TX10, 29)) hz (zAt.mt 0 0 rfl rfl) rfl) rfl rfl (Nat.le_of_ble_eq_true rfl) dX10_say_68) (mM_finding ad iv er (-1000003) 3 (by decide) (by decide)) [0, 2] rfl (by decide) rfl rfl ?_
            exact z_iret hQ hz hr hlk dX10_say_71 (by
              have e9 : sSay g wd sz nb (nI j) = (3, 0, wd, sz, nb) := by simp only [sSay]; rw [hh, hnw, tnw, if_pos c1, t_j, if_neg (fun h9 => c9 (h9 k (by omega)))]
              rw [e9, hh]; exact ⟨congrArg (fun z => some (Value.int z)) rE3, rfl⟩)
    exact lp_35 ((nw - 0) + 1) 0 0 (Nat.zero_le _) (fun _ h9 => absurd h9 (Nat.not_lt_zero _)) rfl (Nat.zero_le _) (Nat.lt_succ_self _)
  · refine z_aload_n hz dX10_say_23 0 rfl rfl ?_
    refine z_ldc hz q2031 dX10_say_24 ?_
    refine z_callD (bs2 := [zO (ad 99) 10 (mFs ad iv), zI (G.2.2.1 0) (ad 0) 602 h, zI (G.2.2.1 0) (ad 4) 6 (upd er 1 (er 1 + 1)), zI (G.2.2.1 0) (ad 25) 4 wd, zI (G.2.2.1 0) (ad 26) 4 sz, zI (G.2.2.1 0) (ad 27) 160 nb]) (st2 := [.int (-1000001)]) hz hA (zk_V hz (rm := (zRm 0 0 0 0)) (As := [.int (-1000001)]) (rest := []) 1 q2032 q2034 qs35 q95 q2035 (by decide +kernel) ⟨Nat.le_of_ble_eq_true rfl, Nat.le_of_ble_eq_true rfl⟩ ⟨Nat.le_of_ble_eq_true rfl, Nat.le_of_ble_eq_true rfl⟩ (zRecv (q := (RX10, TX10, 29)) hz (zAt.mt 0 0 rfl rfl) rfl) rfl rfl (Nat.le_of_ble_eq_true rfl) dX10_say_26) (mM_finding ad iv er (-1000001) 1 (by decide) (by decide)) [0, 2] rfl (by decide) rfl rfl ?_
    exact z_iret hQ hz hr hlk dX10_say_29 (by
      have e9 : sSay g wd sz nb sheet = (1, 0, wd, sz, nb) := by simp only [sSay]; rw [if_neg c1]
      rw [e9, hh]; exact ⟨congrArg (fun z => some (Value.int z)) rE1, rfl⟩)
set_option maxHeartbeats 2000000 in
theorem mM_findLetters {G : zG} (ad : Nat → Nat) (iv sz nb L0 : Nat → Int32) (j z : Nat) (hj : j < 4) (hz40 : z ≤ 40) (hsz : sz j = nI z) : zMet G yX10_findLetters (ws_ yX10_findLetters cX10_findLetters 6 none) (zRm 0 0 0 0) [.ref (ad 99), .int (nI j)] [zO (ad 99) 10 (mFs ad iv), zI (G.2.2.1 0) (ad 26) 4 sz, zI (G.2.2.1 0) (ad 27) 160 nb, zI (G.2.2.1 0) (ad 17) 40 L0] (fun v9 b9 => v9 = none ∧ b9 = [zO (ad 99) 10 (mFs ad (upd (upd iv 18 (nI ((rdF nb L0 (40 * j) z).2.1))) 19 (rdS (rdF nb L0 (40 * j) z) z))), zI (G.2.2.1 0) (ad 26) 4 sz, zI (G.2.2.1 0) (ad 27) 160 nb, zI (G.2.2.1 0) (ad 17) 40 ((rdF nb L0 (40 * j) z).1)]) := by
  refine zMet.of (by decide +kernel) (Nat.le_of_ble_eq_true rfl) ?_
  intro p e s m args below meth c A hz hA hr hlk hnm9 Q hQ
  refine z_lv (lv' := [(0, .ref (ad 99)), (1, .int (nI j))]) [0, 1] rfl ?_
  refine z_aload_n hz dX10_findLetters_0 0 rfl rfl ?_
  refine z_iconst hz 0 dX10_findLetters_1 ki_0 ?_
  refine z_put (C := RX10) (T := TX10) (N := 29) hz in_X10 tyX10 tyX10_ok nmX10 0 0 rfl rfl rfl 18 (by decide) q1947 (fun _ h9 => h9) rfl rfl rfl (Nat.le_of_ble_eq_true rfl) dX10_findLetters_2 ?_
  refine z_bs (bs2 := [zO (ad 99) 10 (mFs ad (upd iv 18 0)), zI (G.2.2.1 0) (ad 26) 4 sz, zI (G.2.2.1 0) (ad 27) 160 nb, zI (G.2.2.1 0) (ad 17) 40 L0]) rfl ?_
  refine z_aload_n hz dX10_findLetters_5 0 rfl rfl ?_
  refine z_iconst hz (-1) dX10_findLetters_6 ki_m1 ?_
  refine z_put (C := RX10) (T := TX10) (N := 29) hz in_X10 tyX10 tyX10_ok nmX10 0 0 rfl rfl rfl 19 (by decide) q1948 (fun _ h9 => h9) rfl rfl rfl (Nat.le_of_ble_eq_true rfl) dX10_findLetters_7 ?_
  refine z_bs (bs2 := [zO (ad 99) 10 (mFs ad (upd (upd iv 18 0) 19 (-1))), zI (G.2.2.1 0) (ad 26) 4 sz, zI (G.2.2.1 0) (ad 27) 160 nb, zI (G.2.2.1 0) (ad 17) 40 L0]) rfl ?_
  refine z_iconst hz 0 dX10_findLetters_10 ki_0 ?_
  refine z_istore_n (lv' := [(0, .ref (ad 99)), (1, .int (nI j)), (2, .int 0)]) hz [1, 2, 0] dX10_findLetters_11 rfl (by decide) rfl ?_
  refine z_iconst hz 0 dX10_findLetters_12 ki_0 ?_
  refine z_istore_n (lv' := [(0, .ref (ad 99)), (1, .int (nI j)), (2, .int 0), (3, .int 0)]) hz [1, 2, 3, 0] dX10_findLetters_13 rfl (by decide) rfl ?_
  refine z_iconst hz 0 dX10_findLetters_14 ki_0 ?_
  refine z_istore (lv' := [(0, .ref (ad 99)), (1, .int (nI j)), (2, .int 0), (3, .int 0), (4, .int 0)]) hz [1, 2, 3, 4, 0] dX10_findLetters_15 (by decide) rfl ?_
  have lp_17 : ∀ (n9 : Nat) (k : Nat) (L : Nat → Int32) (mn : Nat) (st : Int32) (kn : Nat) (fi : Nat), k ≤ z → rdF nb L0 (40 * j) k = (L, mn, st, kn, fi) → mn ≤ k → z - k < n9 → zW p G.1 e (zRm 0 0 0 0) s m args below meth c 6 Q 0 0 (zΦ G A s [zO (ad 99) 10 (mFs ad (upd (upd iv 18 (nI mn)) 19 st)), zI (G.2.2.1 0) (ad 26) 4 sz, zI (G.2.2.1 0) (ad 27) 160 nb, zI (G.2.2.1 0) (ad 17) 40 L]) 17 [(0, .ref (ad 99)), (1, .int (nI j)), (2, .int (nI kn)), (3, .int (nI fi)), (4, .int (nI k))] [] := by
    intro n9
    induction n9 with
    | zero => intro _ _ _ _ _ _ _ _ _ hm; exact absurd hm (Nat.not_lt_zero _)
    | succ n9 ih_17 =>
      intro k L mn st kn fi hk hq hmk hm_17
      have hbb := rdF_b (nb := nb) (L0 := L0) (base := 40 * j) k
      rw [hq] at hbb
      simp only at hbb
      refine z_iload hz dX10_findLetters_17 4 rfl ?_
      refine z_aload_n hz dX10_findLetters_19 0 rfl rfl ?_
      refine z_get (C := RX10) (T := TX10) (N := 29) hz in_X10 (zAt.mt 0 0 rfl rfl) rfl 26 (by decide) q1955 (fun _ h9 => h9) rfl dX10_findLetters_20 ?_
      refine z_iload_n hz dX10_findLetters_23 1 rfl rfl ?_
      refine z_iald hz (zAt.mt 1 0 rfl rfl) rfl (by omega) (by decide) dX10_findLetters_24 ?_
      refine z_top hsz ?_
      refine z_icmpN_ge hz rfl rfl (by omega) (by omega) 132 dX10_findLetters_25 (by decide) (fun c1 => ?_) (fun c1 => ?_)
      · have hE : rdF nb L0 (40 * j) z = (L, mn, st, kn, fi) := by rw [← hq, show k = z by omega]
        refine z_aload_n hz dX10_findLetters_132 0 rfl rfl ?_
        refine z_aload_n hz dX10_findLetters_133 0 rfl rfl ?_
        refine z_get (C := RX10) (T := TX10) (N := 29) hz in_X10 (zAt.mt 0 0 rfl rfl) rfl 19 (by decide) q1948 (fun _ h9 => h9) rfl dX10_findLetters_134 ?_
        refine z_if_ge hz 155 dX10_findLetters_137 (by decide) (fun c2 => ?_) (fun c2 => ?_)
        · refine z_aload_n hz dX10_findLetters_155 0 rfl rfl ?_
          refine z_get (C := RX10) (T := TX10) (N := 29) hz in_X10 (zAt.mt 0 0 rfl rfl) rfl 19 (by decide) q1948 (fun _ h9 => h9) rfl dX10_findLetters_156 ?_
          refine z_put (C := RX10) (T := TX10) (N := 29) hz in_X10 tyX10 tyX10_ok nmX10 0 0 rfl rfl rfl 19 (by decide) q1948 (fun _ h9 => h9) rfl rfl rfl (Nat.le_of_ble_eq_true rfl) dX10_findLetters_159 ?_
          refine z_bs (bs2 := [zO (ad 99) 10 (mFs ad (upd (upd iv 18 (nI mn)) 19 st)), zI (G.2.2.1 0) (ad 26) 4 sz, zI (G.2.2.1 0) (ad 27) 160 nb, zI (G.2.2.1 0) (ad 17) 40 L]) rfl ?_
          exact z_vret hQ hz hr hlk dX10_findLetters_162 ⟨rfl, (by rw [hE]; unfold rdS; rw [if_neg (fun h9 => (Int32.not_lt.mpr c2) h9.1)])⟩
        · refine z_iload_n hz dX10_findLetters_140 3 rfl rfl ?_
          refine z_iload_n hz dX10_findLetters_141 2 rfl rfl ?_
          refine z_iaddN hz rfl rfl dX10_findLetters_142 ?_
          refine z_ifN_le hz rfl (by omega) 155 dX10_findLetters_143 (by decide) (fun c3 => ?_) (fun c3 => ?_)
          · refine z_aload_n hz dX10_findLetters_155 0 rfl rfl ?_
            refine z_get (C := RX10) (T := TX10) (N := 29) hz in_X10 (zAt.mt 0 0 rfl rfl) rfl 19 (by decide) q1948 (fun _ h9 => h9) rfl dX10_findLetters_156 ?_
            refine z_put (C := RX10) (T := TX10) (N := 29) hz in_X10 tyX10 tyX10_ok nmX10 0 0 rfl rfl rfl 19 (by decide) q1948 (fun _ h9 => h9) rfl rfl rfl (Nat.le_of_ble_eq_true rfl) dX10_findLetters_159 ?_
            refine z_bs (bs2 := [zO (ad 99) 10 (mFs ad (upd (upd iv 18 (nI mn)) 19 st)), zI (G.2.2.1 0) (ad 26) 4 sz, zI (G.2.2.1 0) (ad 27) 160 nb, zI (G.2.2.1 0) (ad 17) 40 L]) rfl ?_
            exact z_vret hQ hz hr hlk dX10_findLetters_162 ⟨rfl, (by rw [hE]; unfold rdS; rw [if_neg (fun h9 => by have h8 : 0 < fi + kn := h9.2; omega)])⟩
          · refine z_aload_n hz dX10_findLetters_146 0 rfl rfl ?_
            refine z_get (C := RX10) (T := TX10) (N := 29) hz in_X10 (zAt.mt 0 0 rfl rfl) rfl 26 (by decide) q1955 (fun _ h9 => h9) rfl dX10_findLetters_147 ?_
            refine z_iload_n hz dX10_findLetters_150 1 rfl rfl ?_
            refine z_iald hz (zAt.mt 1 0 rfl rfl) rfl (by omega) (by decide) dX10_findLetters_151 ?_
            refine z_top hsz ?_
            refine z_goto hz 159 dX10_findLetters_152 (by decide) ?_
            refine z_put (C := RX10) (T := TX10) (N := 29) hz in_X10 tyX10 tyX10_ok nmX10 0 0 rfl rfl rfl 19 (by decide) q1948 (fun _ h9 => h9) rfl rfl rfl (Nat.le_of_ble_eq_true rfl) dX10_findLetters_159 ?_
            refine z_bs (bs2 := [zO (ad 99) 10 (mFs ad (upd (upd iv 18 (nI mn)) 19 (nI z))), zI (G.2.2.1 0) (ad 26) 4 sz, zI (G.2.2.1 0) (ad 27) 160 nb, zI (G.2.2.1 0) (ad 17) 40 L]) rfl ?_
            exact z_vret hQ hz hr hlk dX10_findLetters_162 ⟨rfl, (by rw [hE]; unfold rdS; rw [if_pos ⟨(Int32.not_le.mp c2), (show 0 < fi + kn by omega)⟩])⟩
      · refine z_aload_n hz dX10_findLetters_28 0 rfl rfl ?_
        refine z_get (C := RX10) (T := TX10) (N := 29) hz in_X10 (zAt.mt 0 0 rfl rfl) rfl 19 (by decide) q1948 (fun _ h9 => h9) rfl dX10_findLetters_29 ?_
        refine z_if_ge hz 132 dX10_findLetters_32 (by decide) (fun c4 => ?_) (fun c4 => ?_)
        · have hE : rdF nb L0 (40 * j) z = (L, mn, st, kn, fi) := by rw [← hq, show z = k + (z - k) by omega]; exact rdF_stop (by rw [hq]; exact Int32.not_lt.mp (Int32.not_lt.mpr c4)) _
          refine z_aload_n hz dX10_findLetters_132 0 rfl rfl ?_
          refine z_aload_n hz dX10_findLetters_133 0 rfl rfl ?_
          refine z_get (C := RX10) (T := TX10) (N := 29) hz in_X10 (zAt.mt 0 0 rfl rfl) rfl 19 (by decide) q1948 (fun _ h9 => h9) rfl dX10_findLetters_134 ?_
          refine z_if_geT hz 155 dX10_findLetters_137 (by decide) (Int32.not_lt.mp (Int32.not_lt.mpr c4)) ?_
          refine z_aload_n hz dX10_findLetters_155 0 rfl rfl ?_
          refine z_get (C := RX10) (T := TX10) (N := 29) hz in_X10 (zAt.mt 0 0 rfl rfl) rfl 19 (by decide) q1948 (fun _ h9 => h9) rfl dX10_findLetters_156 ?_
          refine z_put (C := RX10) (T := TX10) (N := 29) hz in_X10 tyX10 tyX10_ok nmX10 0 0 rfl rfl rfl 19 (by decide) q1948 (fun _ h9 => h9) rfl rfl rfl (Nat.le_of_ble_eq_true rfl) dX10_findLetters_159 ?_
          refine z_bs (bs2 := [zO (ad 99) 10 (mFs ad (upd (upd iv 18 (nI mn)) 19 st)), zI (G.2.2.1 0) (ad 26) 4 sz, zI (G.2.2.1 0) (ad 27) 160 nb, zI (G.2.2.1 0) (ad 17) 40 L]) rfl ?_
          exact z_vret hQ hz hr hlk dX10_findLetters_162 ⟨rfl, (by rw [hE]; unfold rdS; rw [if_neg (fun h9 => (Int32.not_lt.mpr c4) h9.1)])⟩
        · have hst : ¬ 0 ≤ (L, mn, st, kn, fi).2.2.1 := Int32.not_le.mpr (Int32.not_le.mp c4)
          refine z_aload_n hz dX10_findLetters_35 0 rfl rfl ?_
          refine z_get (C := RX10) (T := TX10) (N := 29) hz in_X10 (zAt.mt 0 0 rfl rfl) rfl 27 (by decide) q1956 (fun _ h9 => h9) rfl dX10_findLetters_36 ?_
          refine z_bipush hz 40 dX10_findLetters_39 kb_40 ?_
          refine z_iload_n hz dX10_findLetters_41 1 rfl rfl ?_
          refine z_imulN hz kn_40 rfl dX10_findLetters_42 ?_
          refine z_iload hz dX10_findLetters_43 4 rfl ?_
          refine z_iaddN hz rfl rfl dX10_findLetters_45 ?_
          refine z_iald hz (zAt.mt 2 0 rfl rfl) rfl (by omega) (by decide) dX10_findLetters_46 ?_
          refine z_istore (lv' := [(0, .ref (ad 99)), (1, .int (nI j)), (2, .int (nI kn)), (3, .int (nI fi)), (4, .int (nI k)), (5, .int (nb ((40 * j) + k)))]) hz [1, 2, 3, 4, 5, 0] dX10_findLetters_47 (by decide) rfl ?_
          refine z_iload hz dX10_findLetters_49 5 rfl ?_
          refine z_iconst hz 1 dX10_findLetters_51 ki_1 ?_
          refine z_icmp_ne hz 66 dX10_findLetters_52 (by decide) (fun c5 => ?_) (fun c5 => ?_)
          · refine z_iload hz dX10_findLetters_66 5 rfl ?_
            refine z_if_ne hz 75 dX10_findLetters_68 (by decide) (fun c6 => ?_) (fun c6 => ?_)
            · refine z_aload_n hz dX10_findLetters_75 0 rfl rfl ?_
              refine z_iload hz dX10_findLetters_76 4 rfl ?_
              refine z_put (C := RX10) (T := TX10) (N := 29) hz in_X10 tyX10 tyX10_ok nmX10 0 0 rfl rfl rfl 19 (by decide) q1948 (fun _ h9 => h9) rfl rfl rfl (Nat.le_of_ble_eq_true rfl) dX10_findLetters_78 ?_
              refine z_bs (bs2 := [zO (ad 99) 10 (mFs ad (upd (upd iv 18 (nI mn)) 19 (nI k))), zI (G.2.2.1 0) (ad 26) 4 sz, zI (G.2.2.1 0) (ad 27) 160 nb, zI (G.2.2.1 0) (ad 17) 40 L]) rfl ?_
              refine z_goto hz 126 dX10_findLetters_81 (by decide) ?_
              refine z_iinc (lv' := [(0, .ref (ad 99)), (1, .int (nI j)), (2, .int (nI kn)), (3, .int (nI fi)), (4, .int (nI (k + 1))), (5, .int (nb ((40 * j) + k)))]) hz (nI (k + 1)) 4 [1, 2, 3, 4, 0, 5] dX10_findLetters_126 rfl (nI_1 _) (by decide) rfl ?_
              refine z_goto hz 17 dX10_findLetters_129 (by decide) ?_
              refine z_lv [0, 1, 2, 3, 4] rfl ?_
              exact ih_17 (k + 1) L mn (nI k) kn fi (by omega) (by rw [show rdF nb L0 (40 * j) (k + 1) = rdF nb L0 (40 * j) (k + 1) from rfl]; simp only [rdF]; rw [hq, if_neg hst, if_neg (fun h9 => c5 h9.1), if_pos (Or.inl c6)]) (by omega) (by omega)
            · refine z_iload_n hz dX10_findLetters_71 2 rfl rfl ?_
              refine z_ifN_ne hz rfl (by omega) 84 dX10_findLetters_72 (by decide) (fun c7 => ?_) (fun c7 => ?_)
              · refine z_iload_n hz dX10_findLetters_84 3 rfl rfl ?_
                refine z_ifN_ne hz rfl (by omega) 95 dX10_findLetters_85 (by decide) (fun c8 => ?_) (fun c8 => ?_)
                · refine z_aload_n hz dX10_findLetters_95 0 rfl rfl ?_
                  refine z_get (C := RX10) (T := TX10) (N := 29) hz in_X10 (zAt.mt 0 0 rfl rfl) rfl 17 (by decide) q1946 (fun _ h9 => h9) rfl dX10_findLetters_96 ?_
                  refine z_aload_n hz dX10_findLetters_99 0 rfl rfl ?_
                  refine z_get (C := RX10) (T := TX10) (N := 29) hz in_X10 (zAt.mt 0 0 rfl rfl) rfl 18 (by decide) q1947 (fun _ h9 => h9) rfl dX10_findLetters_100 ?_
                  refine z_iconst hz 5 dX10_findLetters_103 ki_5 ?_
                  refine z_iload_n hz dX10_findLetters_104 3 rfl rfl ?_
                  refine z_imulN hz kn_5 rfl dX10_findLetters_105 ?_
                  refine z_iload_n hz dX10_findLetters_106 2 rfl rfl ?_
                  refine z_iaddN hz rfl rfl dX10_findLetters_107 ?_
                  refine z_bipush hz 6 dX10_findLetters_108 kb_6 ?_
                  refine z_isub hz dX10_findLetters_110 ?_
                  refine z_iast hz 3 0 rfl rfl rfl (by omega) (by decide) dX10_findLetters_111 ?_
                  refine z_bs (bs2 := [zO (ad 99) 10 (mFs ad (upd (upd iv 18 (nI mn)) 19 st)), zI (G.2.2.1 0) (ad 26) 4 sz, zI (G.2.2.1 0) (ad 27) 160 nb, zI (G.2.2.1 0) (ad 17) 40 (upd L mn ((nI ((5 * fi) + kn)) - 6))]) rfl ?_
                  refine z_aload_n hz dX10_findLetters_112 0 rfl rfl ?_
                  refine z_dup hz dX10_findLetters_113 rfl ?_
                  refine z_get (C := RX10) (T := TX10) (N := 29) hz in_X10 (zAt.mt 0 0 rfl rfl) rfl 18 (by decide) q1947 (fun _ h9 => h9) rfl dX10_findLetters_114 ?_
                  refine z_iconst hz 1 dX10_findLetters_117 ki_1 ?_
                  refine z_iaddN hz rfl kn_1 dX10_findLetters_118 ?_
                  refine z_put (C := RX10) (T := TX10) (N := 29) hz in_X10 tyX10 tyX10_ok nmX10 0 0 rfl rfl rfl 18 (by decide) q1947 (fun _ h9 => h9) rfl rfl rfl (Nat.le_of_ble_eq_true rfl) dX10_findLetters_119 ?_
                  refine z_bs (bs2 := [zO (ad 99) 10 (mFs ad (upd (upd iv 19 st) 18 (nI (mn + 1)))), zI (G.2.2.1 0) (ad 26) 4 sz, zI (G.2.2.1 0) (ad 27) 160 nb, zI (G.2.2.1 0) (ad 17) 40 (upd L mn ((nI ((5 * fi) + kn)) - 6))]) rfl ?_
                  refine z_iconst hz 0 dX10_findLetters_122 ki_0 ?_
                  refine z_istore_n (lv' := [(0, .ref (ad 99)), (1, .int (nI j)), (2, .int (nI kn)), (3, .int 0), (4, .int (nI k)), (5, .int (nb ((40 * j) + k)))]) hz [1, 2, 3, 0, 4, 5] dX10_findLetters_123 rfl (by decide) rfl ?_
                  refine z_iconst hz 0 dX10_findLetters_124 ki_0 ?_
                  refine z_istore_n (lv' := [(0, .ref (ad 99)), (1, .int (nI j)), (2, .int 0), (3, .int 0), (4, .int (nI k)), (5, .int (nb ((40 * j) + k)))]) hz [1, 2, 0, 3, 4, 5] dX10_findLetters_125 rfl (by decide) rfl ?_
                  refine z_iinc (lv' := [(0, .ref (ad 99)), (1, .int (nI j)), (2, .int 0), (3, .int 0), (4, .int (nI (k + 1))), (5, .int (nb ((40 * j) + k)))]) hz (nI (k + 1)) 4 [1, 2, 3, 4, 0, 5] dX10_findLetters_126 rfl (nI_1 _) (by decide) rfl ?_
                  refine z_goto hz 17 dX10_findLetters_129 (by decide) ?_
                  refine z_lv [0, 1, 2, 3, 4] rfl ?_
                  exact ih_17 (k + 1) (upd L mn ((nI ((5 * fi) + kn)) - 6)) (mn + 1) st 0 0 (by omega) (by rw [show rdF nb L0 (40 * j) (k + 1) = rdF nb L0 (40 * j) (k + 1) from rfl]; simp only [rdF]; rw [hq, if_neg hst, if_neg (fun h9 => c5 h9.1), if_neg (fun h9 => h9.elim (fun h8 => h8 c6) c7), if_neg c8]) (by omega) (by omega)
                · refine z_iload_n hz dX10_findLetters_88 2 rfl rfl ?_
                  refine z_istore_n (lv' := [(0, .ref (ad 99)), (1, .int (nI j)), (2, .int (nI kn)), (3, .int (nI kn)), (4, .int (nI k)), (5, .int (nb ((40 * j) + k)))]) hz [1, 2, 3, 0, 4, 5] dX10_findLetters_89 rfl (by decide) rfl ?_
                  refine z_iconst hz 0 dX10_findLetters_90 ki_0 ?_
                  refine z_istore_n (lv' := [(0, .ref (ad 99)), (1, .int (nI j)), (2, .int 0), (3, .int (nI kn)), (4, .int (nI k)), (5, .int (nb ((40 * j) + k)))]) hz [1, 2, 0, 3, 4, 5] dX10_findLetters_91 rfl (by decide) rfl ?_
                  refine z_goto hz 126 dX10_findLetters_92 (by decide) ?_
                  refine z_iinc (lv' := [(0, .ref (ad 99)), (1, .int (nI j)), (2, .int 0), (3, .int (nI kn)), (4, .int (nI (k + 1))), (5, .int (nb ((40 * j) + k)))]) hz (nI (k + 1)) 4 [1, 2, 3, 4, 0, 5] dX10_findLetters_126 rfl (nI_1 _) (by decide) rfl ?_
                  refine z_goto hz 17 dX10_findLetters_129 (by decide) ?_
                  refine z_lv [0, 1, 2, 3, 4] rfl ?_
                  exact ih_17 (k + 1) L mn st 0 kn (by omega) (by rw [show rdF nb L0 (40 * j) (k + 1) = rdF nb L0 (40 * j) (k + 1) from rfl]; simp only [rdF]; rw [hq, if_neg hst, if_neg (fun h9 => c5 h9.1), if_neg (fun h9 => h9.elim (fun h8 => h8 c6) c7), if_pos c8]) (by omega) (by omega)
              · refine z_aload_n hz dX10_findLetters_75 0 rfl rfl ?_
                refine z_iload hz dX10_findLetters_76 4 rfl ?_
                refine z_put (C := RX10) (T := TX10) (N := 29) hz in_X10 tyX10 tyX10_ok nmX10 0 0 rfl rfl rfl 19 (by decide) q1948 (fun _ h9 => h9) rfl rfl rfl (Nat.le_of_ble_eq_true rfl) dX10_findLetters_78 ?_
                refine z_bs (bs2 := [zO (ad 99) 10 (mFs ad (upd (upd iv 18 (nI mn)) 19 (nI k))), zI (G.2.2.1 0) (ad 26) 4 sz, zI (G.2.2.1 0) (ad 27) 160 nb, zI (G.2.2.1 0) (ad 17) 40 L]) rfl ?_
                refine z_goto hz 126 dX10_findLetters_81 (by decide) ?_
                refine z_iinc (lv' := [(0, .ref (ad 99)), (1, .int (nI j)), (2, .int (nI kn)), (3, .int (nI fi)), (4, .int (nI (k + 1))), (5, .int (nb ((40 * j) + k)))]) hz (nI (k + 1)) 4 [1, 2, 3, 4, 0, 5] dX10_findLetters_126 rfl (nI_1 _) (by decide) rfl ?_
                refine z_goto hz 17 dX10_findLetters_129 (by decide) ?_
                refine z_lv [0, 1, 2, 3, 4] rfl ?_
                exact ih_17 (k + 1) L mn (nI k) kn fi (by omega) (by rw [show rdF nb L0 (40 * j) (k + 1) = rdF nb L0 (40 * j) (k + 1) from rfl]; simp only [rdF]; rw [hq, if_neg hst, if_neg (fun h9 => c5 h9.1), if_pos (Or.inr c7)]) (by omega) (by omega)
          · refine z_iload_n hz dX10_findLetters_55 2 rfl rfl ?_
            refine z_iconst hz 5 dX10_findLetters_56 ki_5 ?_
            refine z_icmpN_ge hz rfl kn_5 (by omega) (by decide) 66 dX10_findLetters_57 (by decide) (fun c9 => ?_) (fun c9 => ?_)
            · refine z_iload hz dX10_findLetters_66 5 rfl ?_
              refine z_if_ne hz 75 dX10_findLetters_68 (by decide) (fun c10 => ?_) (fun c10 => ?_)
              · refine z_aload_n hz dX10_findLetters_75 0 rfl rfl ?_
                refine z_iload hz dX10_findLetters_76 4 rfl ?_
                refine z_put (C := RX10) (T := TX10) (N := 29) hz in_X10 tyX10 tyX10_ok nmX10 0 0 rfl rfl rfl 19 (by decide) q1948 (fun _ h9 => h9) rfl rfl rfl (Nat.le_of_ble_eq_true rfl) dX10_findLetters_78 ?_
                refine z_bs (bs2 := [zO (ad 99) 10 (mFs ad (upd (upd iv 18 (nI mn)) 19 (nI k))), zI (G.2.2.1 0) (ad 26) 4 sz, zI (G.2.2.1 0) (ad 27) 160 nb, zI (G.2.2.1 0) (ad 17) 40 L]) rfl ?_
                refine z_goto hz 126 dX10_findLetters_81 (by decide) ?_
                refine z_iinc (lv' := [(0, .ref (ad 99)), (1, .int (nI j)), (2, .int (nI kn)), (3, .int (nI fi)), (4, .int (nI (k + 1))), (5, .int (nb ((40 * j) + k)))]) hz (nI (k + 1)) 4 [1, 2, 3, 4, 0, 5] dX10_findLetters_126 rfl (nI_1 _) (by decide) rfl ?_
                refine z_goto hz 17 dX10_findLetters_129 (by decide) ?_
                refine z_lv [0, 1, 2, 3, 4] rfl ?_
                exact ih_17 (k + 1) L mn (nI k) kn fi (by omega) (by rw [show rdF nb L0 (40 * j) (k + 1) = rdF nb L0 (40 * j) (k + 1) from rfl]; simp only [rdF]; rw [hq, if_neg hst, if_neg (fun h9 => c9 h9.2), if_pos (Or.inl c10)]) (by omega) (by omega)
              · refine z_iload_n hz dX10_findLetters_71 2 rfl rfl ?_
                refine z_ifN_ne hz rfl (by omega) 84 dX10_findLetters_72 (by decide) (fun c11 => ?_) (fun c11 => ?_)
                · refine z_iload_n hz dX10_findLetters_84 3 rfl rfl ?_
                  refine z_ifN_ne hz rfl (by omega) 95 dX10_findLetters_85 (by decide) (fun c12 => ?_) (fun c12 => ?_)
                  · refine z_aload_n hz dX10_findLetters_95 0 rfl rfl ?_
                    refine z_get (C := RX10) (T := TX10) (N := 29) hz in_X10 (zAt.mt 0 0 rfl rfl) rfl 17 (by decide) q1946 (fun _ h9 => h9) rfl dX10_findLetters_96 ?_
                    refine z_aload_n hz dX10_findLetters_99 0 rfl rfl ?_
                    refine z_get (C := RX10) (T := TX10) (N := 29) hz in_X10 (zAt.mt 0 0 rfl rfl) rfl 18 (by decide) q1947 (fun _ h9 => h9) rfl dX10_findLetters_100 ?_
                    refine z_iconst hz 5 dX10_findLetters_103 ki_5 ?_
                    refine z_iload_n hz dX10_findLetters_104 3 rfl rfl ?_
                    refine z_imulN hz kn_5 rfl dX10_findLetters_105 ?_
                    refine z_iload_n hz dX10_findLetters_106 2 rfl rfl ?_
                    refine z_iaddN hz rfl rfl dX10_findLetters_107 ?_
                    refine z_bipush hz 6 dX10_findLetters_108 kb_6 ?_
                    refine z_isub hz dX10_findLetters_110 ?_
                    refine z_iast hz 3 0 rfl rfl rfl (by omega) (by decide) dX10_findLetters_111 ?_
                    refine z_bs (bs2 := [zO (ad 99) 10 (mFs ad (upd (upd iv 18 (nI mn)) 19 st)), zI (G.2.2.1 0) (ad 26) 4 sz, zI (G.2.2.1 0) (ad 27) 160 nb, zI (G.2.2.1 0) (ad 17) 40 (upd L mn ((nI ((5 * fi) + kn)) - 6))]) rfl ?_
                    refine z_aload_n hz dX10_findLetters_112 0 rfl rfl ?_
                    refine z_dup hz dX10_findLetters_113 rfl ?_
                    refine z_get (C := RX10) (T := TX10) (N := 29) hz in_X10 (zAt.mt 0 0 rfl rfl) rfl 18 (by decide) q1947 (fun _ h9 => h9) rfl dX10_findLetters_114 ?_
                    refine z_iconst hz 1 dX10_findLetters_117 ki_1 ?_
                    refine z_iaddN hz rfl kn_1 dX10_findLetters_118 ?_
                    refine z_put (C := RX10) (T := TX10) (N := 29) hz in_X10 tyX10 tyX10_ok nmX10 0 0 rfl rfl rfl 18 (by decide) q1947 (fun _ h9 => h9) rfl rfl rfl (Nat.le_of_ble_eq_true rfl) dX10_findLetters_119 ?_
                    refine z_bs (bs2 := [zO (ad 99) 10 (mFs ad (upd (upd iv 19 st) 18 (nI (mn + 1)))), zI (G.2.2.1 0) (ad 26) 4 sz, zI (G.2.2.1 0) (ad 27) 160 nb, zI (G.2.2.1 0) (ad 17) 40 (upd L mn ((nI ((5 * fi) + kn)) - 6))]) rfl ?_
                    refine z_iconst hz 0 dX10_findLetters_122 ki_0 ?_
                    refine z_istore_n (lv' := [(0, .ref (ad 99)), (1, .int (nI j)), (2, .int (nI kn)), (3, .int 0), (4, .int (nI k)), (5, .int (nb ((40 * j) + k)))]) hz [1, 2, 3, 0, 4, 5] dX10_findLetters_123 rfl (by decide) rfl ?_
                    refine z_iconst hz 0 dX10_findLetters_124 ki_0 ?_
                    refine z_istore_n (lv' := [(0, .ref (ad 99)), (1, .int (nI j)), (2, .int 0), (3, .int 0), (4, .int (nI k)), (5, .int (nb ((40 * j) + k)))]) hz [1, 2, 0, 3, 4, 5] dX10_findLetters_125 rfl (by decide) rfl ?_
                    refine z_iinc (lv' := [(0, .ref (ad 99)), (1, .int (nI j)), (2, .int 0), (3, .int 0), (4, .int (nI (k + 1))), (5, .int (nb ((40 * j) + k)))]) hz (nI (k + 1)) 4 [1, 2, 3, 4, 0, 5] dX10_findLetters_126 rfl (nI_1 _) (by decide) rfl ?_
                    refine z_goto hz 17 dX10_findLetters_129 (by decide) ?_
                    refine z_lv [0, 1, 2, 3, 4] rfl ?_
                    exact ih_17 (k + 1) (upd L mn ((nI ((5 * fi) + kn)) - 6)) (mn + 1) st 0 0 (by omega) (by rw [show rdF nb L0 (40 * j) (k + 1) = rdF nb L0 (40 * j) (k + 1) from rfl]; simp only [rdF]; rw [hq, if_neg hst, if_neg (fun h9 => c9 h9.2), if_neg (fun h9 => h9.elim (fun h8 => h8 c10) c11), if_neg c12]) (by omega) (by omega)
                  · refine z_iload_n hz dX10_findLetters_88 2 rfl rfl ?_
                    refine z_istore_n (lv' := [(0, .ref (ad 99)), (1, .int (nI j)), (2, .int (nI kn)), (3, .int (nI kn)), (4, .int (nI k)), (5, .int (nb ((40 * j) + k)))]) hz [1, 2, 3, 0, 4, 5] dX10_findLetters_89 rfl (by decide) rfl ?_
                    refine z_iconst hz 0 dX10_findLetters_90 ki_0 ?_
                    refine z_istore_n (lv' := [(0, .ref (ad 99)), (1, .int (nI j)), (2, .int 0), (3, .int (nI kn)), (4, .int (nI k)), (5, .int (nb ((40 * j) + k)))]) hz [1, 2, 0, 3, 4, 5] dX10_findLetters_91 rfl (by decide) rfl ?_
                    refine z_goto hz 126 dX10_findLetters_92 (by decide) ?_
                    refine z_iinc (lv' := [(0, .ref (ad 99)), (1, .int (nI j)), (2, .int 0), (3, .int (nI kn)), (4, .int (nI (k + 1))), (5, .int (nb ((40 * j) + k)))]) hz (nI (k + 1)) 4 [1, 2, 3, 4, 0, 5] dX10_findLetters_126 rfl (nI_1 _) (by decide) rfl ?_
                    refine z_goto hz 17 dX10_findLetters_129 (by decide) ?_
                    refine z_lv [0, 1, 2, 3, 4] rfl ?_
                    exact ih_17 (k + 1) L mn st 0 kn (by omega) (by rw [show rdF nb L0 (40 * j) (k + 1) = rdF nb L0 (40 * j) (k + 1) from rfl]; simp only [rdF]; rw [hq, if_neg hst, if_neg (fun h9 => c9 h9.2), if_neg (fun h9 => h9.elim (fun h8 => h8 c10) c11), if_pos c12]) (by omega) (by omega)
                · refine z_aload_n hz dX10_findLetters_75 0 rfl rfl ?_
                  refine z_iload hz dX10_findLetters_76 4 rfl ?_
                  refine z_put (C := RX10) (T := TX10) (N := 29) hz in_X10 tyX10 tyX10_ok nmX10 0 0 rfl rfl rfl 19 (by decide) q1948 (fun _ h9 => h9) rfl rfl rfl (Nat.le_of_ble_eq_true rfl) dX10_findLetters_78 ?_
                  refine z_bs (bs2 := [zO (ad 99) 10 (mFs ad (upd (upd iv 18 (nI mn)) 19 (nI k))), zI (G.2.2.1 0) (ad 26) 4 sz, zI (G.2.2.1 0) (ad 27) 160 nb, zI (G.2.2.1 0) (ad 17) 40 L]) rfl ?_
                  refine z_goto hz 126 dX10_findLetters_81 (by decide) ?_
                  refine z_iinc (lv' := [(0, .ref (ad 99)), (1, .int (nI j)), (2, .int (nI kn)), (3, .int (nI fi)), (4, .int (nI (k + 1))), (5, .int (nb ((40 * j) + k)))]) hz (nI (k + 1)) 4 [1, 2, 3, 4, 0, 5] dX10_findLetters_126 rfl (nI_1 _) (by decide) rfl ?_
                  refine z_goto hz 17 dX10_findLetters_129 (by decide) ?_
                  refine z_lv [0, 1, 2, 3, 4] rfl ?_
                  exact ih_17 (k + 1) L mn (nI k) kn fi (by omega) (by rw [show rdF nb L0 (40 * j) (k + 1) = rdF nb L0 (40 * j) (k + 1) from rfl]; simp only [rdF]; rw [hq, if_neg hst, if_neg (fun h9 => c9 h9.2), if_pos (Or.inr c11)]) (by omega) (by omega)
            · refine z_iinc (lv' := [(0, .ref (ad 99)), (1, .int (nI j)), (2, .int (nI (kn + 1))), (3, .int (nI fi)), (4, .int (nI k)), (5, .int (nb ((40 * j) + k)))]) hz (nI (kn + 1)) 2 [1, 2, 0, 3, 4, 5] dX10_findLetters_60 rfl (nI_1 _) (by decide) rfl ?_
              refine z_goto hz 126 dX10_findLetters_63 (by decide) ?_
              refine z_iinc (lv' := [(0, .ref (ad 99)), (1, .int (nI j)), (2, .int (nI (kn + 1))), (3, .int (nI fi)), (4, .int (nI (k + 1))), (5, .int (nb ((40 * j) + k)))]) hz (nI (k + 1)) 4 [1, 2, 3, 4, 0, 5] dX10_findLetters_126 rfl (nI_1 _) (by decide) rfl ?_
              refine z_goto hz 17 dX10_findLetters_129 (by decide) ?_
              refine z_lv [0, 1, 2, 3, 4] rfl ?_
              exact ih_17 (k + 1) L mn st (kn + 1) fi (by omega) (by rw [show rdF nb L0 (40 * j) (k + 1) = rdF nb L0 (40 * j) (k + 1) from rfl]; simp only [rdF]; rw [hq, if_neg hst, if_pos ⟨c5, c9⟩]) (by omega) (by omega)
  exact lp_17 ((z - 0) + 1) 0 L0 0 (-1) 0 0 (Nat.zero_le _) rfl (Nat.zero_le _) (Nat.lt_succ_self _)
set_option maxHeartbeats 2000000 in
theorem mM_read {G : zG} (ad : Nat → Nat) (iv g er wd sz nb L : Nat → Int32) (sheet what : Int32) (hsz : ∀ q, q < 4 → ∃ z, z ≤ 40 ∧ sz q = nI z) : zMet G yX10_read (ws_ yX10_read cX10_read 4 (some .int)) (zRm 2 0 0 60) [.ref (ad 99), .int sheet, .int what] [zO (ad 99) 10 (mFs ad iv), zI (G.2.2.1 0) (ad 0) 602 g, zI (G.2.2.1 0) (ad 4) 6 er, zI (G.2.2.1 0) (ad 25) 4 wd, zI (G.2.2.1 0) (ad 26) 4 sz, zI (G.2.2.1 0) (ad 27) 160 nb, zI (G.2.2.1 0) (ad 17) 40 L] (fun v9 b9 => v9 = some (.int (rOf (sRead g wd sz nb L sheet what))) ∧ ∃ iv9 L9 : Nat → Int32, b9 = [zO (ad 99) 10 (mFs ad iv9), zI (G.2.2.1 0) (ad 0) 602 ((sRead g wd sz nb L sheet what).2.2), zI (G.2.2.1 0) (ad 4) 6 (eOf er (sRead g wd sz nb L sheet what)), zI (G.2.2.1 0) (ad 25) 4 wd, zI (G.2.2.1 0) (ad 26) 4 sz, zI (G.2.2.1 0) (ad 27) 160 nb, zI (G.2.2.1 0) (ad 17) 40 L9] ∧ ivK iv iv9) := by
  refine zMet.of (by decide +kernel) (Nat.le_of_ble_eq_true rfl) ?_
  intro p e s m args below meth c A hz hA hr hlk hnm9 Q hQ
  refine z_lv (lv' := [(0, .ref (ad 99)), (1, .int sheet), (2, .int what)]) [0, 1, 2] rfl ?_
  refine z_iload_n hz dX10_read_0 1 rfl rfl ?_
  refine z_callRD (st2 := [.int (zB (inR sheet 0 3))]) hz zKp.mt (zk_S hz (rm := (zRm 1 0 0 30)) (As := [.int sheet]) (rest := []) 1 q2356 q2357 q95 q2358 (by decide +kernel) ⟨Nat.le_of_ble_eq_true rfl, Nat.le_of_ble_eq_true rfl⟩ ⟨Nat.le_of_ble_eq_true rfl, Nat.le_of_ble_eq_true rfl⟩ rfl rfl (Nat.le_of_ble_eq_true rfl) dX10_read_1) (mM_isSheet sheet) (fun _ _ _ => zP0) rfl ?_
  refine z_ifB_eq hz 13 dX10_read_4 (by decide) (fun c1 => ?_) (fun c1 => ?_)
  · refine z_aload_n hz dX10_read_13 0 rfl rfl ?_
    refine z_ldc hz q2031 dX10_read_14 ?_
    refine z_callD (bs2 := [zO (ad 99) 10 (mFs ad iv), zI (G.2.2.1 0) (ad 0) 602 g, zI (G.2.2.1 0) (ad 4) 6 (upd er 1 (er 1 + 1)), zI (G.2.2.1 0) (ad 25) 4 wd, zI (G.2.2.1 0) (ad 26) 4 sz, zI (G.2.2.1 0) (ad 27) 160 nb, zI (G.2.2.1 0) (ad 17) 40 L]) (st2 := [.int (-1000001)]) hz hA (zk_V hz (rm := (zRm 0 0 0 0)) (As := [.int (-1000001)]) (rest := []) 1 q2032 q2034 qs35 q95 q2035 (by decide +kernel) ⟨Nat.le_of_ble_eq_true rfl, Nat.le_of_ble_eq_true rfl⟩ ⟨Nat.le_of_ble_eq_true rfl, Nat.le_of_ble_eq_true rfl⟩ (zRecv (q := (RX10, TX10, 29)) hz (zAt.mt 0 0 rfl rfl) rfl) rfl rfl (Nat.le_of_ble_eq_true rfl) dX10_read_16) (mM_finding ad iv er (-1000001) 1 (by decide) (by decide)) [0, 2] rfl (by decide) rfl rfl ?_
    exact z_iret hQ hz hr hlk dX10_read_19 (by
      have e9 : sRead g wd sz nb L sheet what = (1, 0, g) := by simp [sRead, inR, c1]
      rw [e9]; exact ⟨congrArg (fun z => some (Value.int z)) rE1, _, _, rfl, ⟨rfl, rfl⟩⟩)
  · obtain ⟨j, j_lo, j_hi, rfl⟩ := inR_nat 0 3 kn_0 kn_3 (by decide) (by decide) c1
    have t_j : tN (nI j) = j := nI_clamp (by omega)
    refine z_iload_n hz dX10_read_7 2 rfl rfl ?_
    refine z_bipush hz (-2) dX10_read_8 kb_m2 ?_
    refine z_icmp_ge hz 20 dX10_read_10 (by decide) (fun c2 => ?_) (fun c2 => ?_)
    · refine z_aload_n hz dX10_read_20 0 rfl rfl ?_
      refine z_get (C := RX10) (T := TX10) (N := 29) hz in_X10 (zAt.mt 0 0 rfl rfl) rfl 25 (by decide) q1954 (fun _ h9 => h9) rfl dX10_read_21 ?_
      refine z_iload_n hz dX10_read_24 1 rfl rfl ?_
      refine z_iald hz (zAt.mt 3 0 rfl rfl) rfl (by omega) (by decide) dX10_read_25 ?_
      refine z_if_ne hz 36 dX10_read_26 (by decide) (fun c3 => ?_) (fun c3 => ?_)
      · obtain ⟨z, hz40, hsz0⟩ := hsz j (by omega)
        have tz : tN (nI z) = z := nI_clamp (by omega)
        refine z_aload_n hz dX10_read_36 0 rfl rfl ?_
        refine z_iload_n hz dX10_read_37 1 rfl rfl ?_
        refine z_callD (bs2 := [zO (ad 99) 10 (mFs ad (upd (upd iv 18 (nI ((rdF nb L (40 * j) z).2.1))) 19 (rdS (rdF nb L (40 * j) z) z))), zI (G.2.2.1 0) (ad 0) 602 g, zI (G.2.2.1 0) (ad 4) 6 er, zI (G.2.2.1 0) (ad 25) 4 wd, zI (G.2.2.1 0) (ad 26) 4 sz, zI (G.2.2.1 0) (ad 27) 160 nb, zI (G.2.2.1 0) (ad 17) 40 ((rdF nb L (40 * j) z).1)]) (st2 := []) hz hA (zk_V hz (rm := (zRm 0 0 0 0)) (As := [.int (nI j)]) (rest := []) 1 q2363 q2365 qs70 q95 q2366 (by decide +kernel) ⟨Nat.le_of_ble_eq_true rfl, Nat.le_of_ble_eq_true rfl⟩ ⟨Nat.le_of_ble_eq_true rfl, Nat.le_of_ble_eq_true rfl⟩ (zRecv (q := (RX10, TX10, 29)) hz (zAt.mt 0 0 rfl rfl) rfl) rfl rfl (Nat.le_of_ble_eq_true rfl) dX10_read_38) (mM_findLetters ad iv sz nb L j z (by omega) hz40 hsz0) [0, 4, 5, 6] rfl (by decide) rfl rfl ?_
        have hrb := rdF_b (nb := nb) (L0 := L) (base := 40 * j) z
        generalize hR : rdF nb L (40 * j) z = R at hrb ⊢
        obtain ⟨L2, mn, st, kn, fi⟩ := R
        have hmn : mn ≤ z := hrb.1
        generalize hS : rdS (L2, mn, st, kn, fi) z = sp
        refine z_iload_n hz dX10_read_41 2 rfl rfl ?_
        refine z_iconst hz (-1) dX10_read_42 ki_m1 ?_
        refine z_icmp_ne hz 51 dX10_read_43 (by decide) (fun c4 => ?_) (fun c4 => ?_)
        · refine z_iload_n hz dX10_read_51 2 rfl rfl ?_
          refine z_bipush hz (-2) dX10_read_52 kb_m2 ?_
          refine z_icmp_ne hz 64 dX10_read_54 (by decide) (fun c5 => ?_) (fun c5 => ?_)
          · obtain ⟨x, hx31, rfl⟩ := nI_of (x := what) (rd_ge (Int32.not_lt.mp (Int32.not_lt.mpr c2)) c5 c4)
            have t_x : tN (nI x) = x := nI_clamp (by omega)
            refine z_iload_n hz dX10_read_64 2 rfl rfl ?_
            refine z_aload_n hz dX10_read_65 0 rfl rfl ?_
            refine z_get (C := RX10) (T := TX10) (N := 29) hz in_X10 (zAt.mt 0 0 rfl rfl) rfl 18 (by decide) q1947 (fun _ h9 => h9) rfl dX10_read_66 ?_
            refine z_icmpN_ge hz rfl rfl (by omega) (by omega) 81 dX10_read_69 (by decide) (fun c6 => ?_) (fun c6 => ?_)
            · refine z_iconst hz (-1) dX10_read_81 ki_m1 ?_
              refine z_istore_n (lv' := [(0, .ref (ad 99)), (1, .int (nI j)), (2, .int (nI x)), (3, .int (-1))]) hz [1, 2, 3, 0] dX10_read_82 rfl (by decide) rfl ?_
              refine z_iload_n hz dX10_read_83 3 rfl rfl ?_
              refine z_if_geF hz 96 dX10_read_84 (by decide) (by decide) ?_
              refine z_aload_n hz dX10_read_87 0 rfl rfl ?_
              refine z_ldc hz q2133 dX10_read_88 ?_
              refine z_callD (bs2 := [zO (ad 99) 10 (mFs ad (upd (upd iv 18 (nI mn)) 19 sp)), zI (G.2.2.1 0) (ad 0) 602 g, zI (G.2.2.1 0) (ad 4) 6 (upd er 2 (er 2 + 1)), zI (G.2.2.1 0) (ad 25) 4 wd, zI (G.2.2.1 0) (ad 26) 4 sz, zI (G.2.2.1 0) (ad 27) 160 nb, zI (G.2.2.1 0) (ad 17) 40 L2]) (st2 := [.int (-1000002)]) hz hA (zk_V hz (rm := (zRm 0 0 0 0)) (As := [.int (-1000002)]) (rest := []) 1 q2032 q2034 qs35 q95 q2035 (by decide +kernel) ⟨Nat.le_of_ble_eq_true rfl, Nat.le_of_ble_eq_true rfl⟩ ⟨Nat.le_of_ble_eq_true rfl, Nat.le_of_ble_eq_true rfl⟩ (zRecv (q := (RX10, TX10, 29)) hz (zAt.mt 0 0 rfl rfl) rfl) rfl rfl (Nat.le_of_ble_eq_true rfl) dX10_read_90) (mM_finding ad (upd (upd iv 18 (nI mn)) 19 sp) er (-1000002) 2 (by decide) (by decide)) [0, 2] rfl (by decide) rfl rfl ?_
              refine z_goto hz 97 dX10_read_93 (by decide) ?_
              exact z_iret hQ hz hr hlk dX10_read_97 (by
                have e9 : sRead g wd sz nb L (nI j) (nI x) = (2, 0, g) := by simp only [sRead]; rw [if_pos ⟨c1, Int32.not_lt.mp (Int32.not_lt.mpr c2)⟩, t_j, if_neg c3, hsz0, tz, hR, if_neg c4, if_neg c5, if_neg (fun h9 => c6 ((nI_ltI (by omega) (by omega)).mp h9)), if_pos (by decide)]
                rw [e9]; exact ⟨congrArg (fun z => some (Value.int z)) rE2, _, _, rfl, ⟨rfl, rfl⟩⟩)
            · refine z_aload_n hz dX10_read_72 0 rfl rfl ?_
              refine z_get (C := RX10) (T := TX10) (N := 29) hz in_X10 (zAt.mt 0 0 rfl rfl) rfl 17 (by decide) q1946 (fun _ h9 => h9) rfl dX10_read_73 ?_
              refine z_iload_n hz dX10_read_76 2 rfl rfl ?_
              refine z_iald hz (zAt.mt 6 0 rfl rfl) rfl (by omega) (by decide) dX10_read_77 ?_
              refine z_goto hz 82 dX10_read_78 (by decide) ?_
              refine z_istore_n (lv' := [(0, .ref (ad 99)), (1, .int (nI j)), (2, .int (nI x)), (3, .int (L2 x))]) hz [1, 2, 3, 0] dX10_read_82 rfl (by decide) rfl ?_
              refine z_iload_n hz dX10_read_83 3 rfl rfl ?_
              refine z_if_ge hz 96 dX10_read_84 (by decide) (fun c7 => ?_) (fun c7 => ?_)
              · refine z_iload_n hz dX10_read_96 3 rfl rfl ?_
                exact z_iret hQ hz hr hlk dX10_read_97 (by
                  have e9 : sRead g wd sz nb L (nI j) (nI x) = (0, L2 x, g) := by simp only [sRead]; rw [if_pos ⟨c1, Int32.not_lt.mp (Int32.not_lt.mpr c2)⟩, t_j, if_neg c3, hsz0, tz, hR, if_neg c4, if_neg c5, if_pos ((nI_ltI (by omega) (by omega)).mpr c6), t_x, if_neg (Int32.not_lt.mpr c7)]
                  rw [e9]; exact ⟨congrArg (fun z => some (Value.int z)) rOf_0.symm, _, _, rfl, ⟨rfl, rfl⟩⟩)
              · refine z_aload_n hz dX10_read_87 0 rfl rfl ?_
                refine z_ldc hz q2133 dX10_read_88 ?_
                refine z_callD (bs2 := [zO (ad 99) 10 (mFs ad (upd (upd iv 18 (nI mn)) 19 sp)), zI (G.2.2.1 0) (ad 0) 602 g, zI (G.2.2.1 0) (ad 4) 6 (upd er 2 (er 2 + 1)), zI (G.2.2.1 0) (ad 25) 4 wd, zI (G.2.2.1 0) (ad 26) 4 sz, zI (G.2.2.1 0) (ad 27) 160 nb, zI (G.2.2.1 0) (ad 17) 40 L2]) (st2 := [.int (-1000002)]) hz hA (zk_V hz (rm := (zRm 0 0 0 0)) (As := [.int (-1000002)]) (rest := []) 1 q2032 q2034 qs35 q95 q2035 (by decide +kernel) ⟨Nat.le_of_ble_eq_true rfl, Nat.le_of_ble_eq_true rfl⟩ ⟨Nat.le_of_ble_eq_true rfl, Nat.le_of_ble_eq_true rfl⟩ (zRecv (q := (RX10, TX10, 29)) hz (zAt.mt 0 0 rfl rfl) rfl) rfl rfl (Nat.le_of_ble_eq_true rfl) dX10_read_90) (mM_finding ad (upd (upd iv 18 (nI mn)) 19 sp) er (-1000002) 2 (by decide) (by decide)) [0, 2] rfl (by decide) rfl rfl ?_
                refine z_goto hz 97 dX10_read_93 (by decide) ?_
                exact z_iret hQ hz hr hlk dX10_read_97 (by
                  have e9 : sRead g wd sz nb L (nI j) (nI x) = (2, 0, g) := by simp only [sRead]; rw [if_pos ⟨c1, Int32.not_lt.mp (Int32.not_lt.mpr c2)⟩, t_j, if_neg c3, hsz0, tz, hR, if_neg c4, if_neg c5, if_pos ((nI_ltI (by omega) (by omega)).mpr c6), t_x, if_pos (Int32.not_le.mp c7)]
                  rw [e9]; exact ⟨congrArg (fun z => some (Value.int z)) rE2, _, _, rfl, ⟨rfl, rfl⟩⟩)
          · refine z_aload_n hz dX10_read_57 0 rfl rfl ?_
            refine z_get (C := RX10) (T := TX10) (N := 29) hz in_X10 (zAt.mt 0 0 rfl rfl) rfl 19 (by decide) q1948 (fun _ h9 => h9) rfl dX10_read_58 ?_
            refine z_goto hz 82 dX10_read_61 (by decide) ?_
            refine z_istore_n (lv' := [(0, .ref (ad 99)), (1, .int (nI j)), (2, .int what), (3, .int sp)]) hz [1, 2, 3, 0] dX10_read_82 rfl (by decide) rfl ?_
            refine z_iload_n hz dX10_read_83 3 rfl rfl ?_
            refine z_if_ge hz 96 dX10_read_84 (by decide) (fun c8 => ?_) (fun c8 => ?_)
            · refine z_iload_n hz dX10_read_96 3 rfl rfl ?_
              exact z_iret hQ hz hr hlk dX10_read_97 (by
                have e9 : sRead g wd sz nb L (nI j) what = (0, sp, g) := by simp only [sRead]; rw [if_pos ⟨c1, Int32.not_lt.mp (Int32.not_lt.mpr c2)⟩, t_j, if_neg c3, hsz0, tz, hR, if_neg c4, if_pos c5, hS, if_neg (Int32.not_lt.mpr c8)]
                rw [e9]; exact ⟨congrArg (fun z => some (Value.int z)) rOf_0.symm, _, _, rfl, ⟨rfl, rfl⟩⟩)
            · refine z_aload_n hz dX10_read_87 0 rfl rfl ?_
              refine z_ldc hz q2133 dX10_read_88 ?_
              refine z_callD (bs2 := [zO (ad 99) 10 (mFs ad (upd (upd iv 18 (nI mn)) 19 sp)), zI (G.2.2.1 0) (ad 0) 602 g, zI (G.2.2.1 0) (ad 4) 6 (upd er 2 (er 2 + 1)), zI (G.2.2.1 0) (ad 25) 4 wd, zI (G.2.2.1 0) (ad 26) 4 sz, zI (G.2.2.1 0) (ad 27) 160 nb, zI (G.2.2.1 0) (ad 17) 40 L2]) (st2 := [.int (-1000002)]) hz hA (zk_V hz (rm := (zRm 0 0 0 0)) (As := [.int (-1000002)]) (rest := []) 1 q2032 q2034 qs35 q95 q2035 (by decide +kernel) ⟨Nat.le_of_ble_eq_true rfl, Nat.le_of_ble_eq_true rfl⟩ ⟨Nat.le_of_ble_eq_true rfl, Nat.le_of_ble_eq_true rfl⟩ (zRecv (q := (RX10, TX10, 29)) hz (zAt.mt 0 0 rfl rfl) rfl) rfl rfl (Nat.le_of_ble_eq_true rfl) dX10_read_90) (mM_finding ad (upd (upd iv 18 (nI mn)) 19 sp) er (-1000002) 2 (by decide) (by decide)) [0, 2] rfl (by decide) rfl rfl ?_
              refine z_goto hz 97 dX10_read_93 (by decide) ?_
              exact z_iret hQ hz hr hlk dX10_read_97 (by
                have e9 : sRead g wd sz nb L (nI j) what = (2, 0, g) := by simp only [sRead]; rw [if_pos ⟨c1, Int32.not_lt.mp (Int32.not_lt.mpr c2)⟩, t_j, if_neg c3, hsz0, tz, hR, if_neg c4, if_pos c5, hS, if_pos (Int32.not_le.mp c8)]
                rw [e9]; exact ⟨congrArg (fun z => some (Value.int z)) rE2, _, _, rfl, ⟨rfl, rfl⟩⟩)
        · refine z_aload_n hz dX10_read_46 0 rfl rfl ?_
          refine z_get (C := RX10) (T := TX10) (N := 29) hz in_X10 (zAt.mt 0 0 rfl rfl) rfl 18 (by decide) q1947 (fun _ h9 => h9) rfl dX10_read_47 ?_
          exact z_iret hQ hz hr hlk dX10_read_50 (by
            have e9 : sRead g wd sz nb L (nI j) what = (0, nI mn, g) := by simp only [sRead]; rw [if_pos ⟨c1, Int32.not_lt.mp (Int32.not_lt.mpr c2)⟩, t_j, if_neg c3, hsz0, tz, hR, if_pos c4]
            rw [e9]; exact ⟨congrArg (fun z => some (Value.int z)) rOf_0.symm, _, _, rfl, ⟨rfl, rfl⟩⟩)
      · refine z_aload_n hz dX10_read_29 0 rfl rfl ?_
        refine z_ldc hz q2133 dX10_read_30 ?_
        refine z_callD (bs2 := [zO (ad 99) 10 (mFs ad iv), zI (G.2.2.1 0) (ad 0) 602 g, zI (G.2.2.1 0) (ad 4) 6 (upd er 2 (er 2 + 1)), zI (G.2.2.1 0) (ad 25) 4 wd, zI (G.2.2.1 0) (ad 26) 4 sz, zI (G.2.2.1 0) (ad 27) 160 nb, zI (G.2.2.1 0) (ad 17) 40 L]) (st2 := [.int (-1000002)]) hz hA (zk_V hz (rm := (zRm 0 0 0 0)) (As := [.int (-1000002)]) (rest := []) 1 q2032 q2034 qs35 q95 q2035 (by decide +kernel) ⟨Nat.le_of_ble_eq_true rfl, Nat.le_of_ble_eq_true rfl⟩ ⟨Nat.le_of_ble_eq_true rfl, Nat.le_of_ble_eq_true rfl⟩ (zRecv (q := (RX10, TX10, 29)) hz (zAt.mt 0 0 rfl rfl) rfl) rfl rfl (Nat.le_of_ble_eq_true rfl) dX10_read_32) (mM_finding ad iv er (-1000002) 2 (by decide) (by decide)) [0, 2] rfl (by decide) rfl rfl ?_
        exact z_iret hQ hz hr hlk dX10_read_35 (by
          have e9 : sRead g wd sz nb L (nI j) what = (2, 0, g) := by simp only [sRead]; rw [if_pos ⟨c1, Int32.not_lt.mp (Int32.not_lt.mpr c2)⟩, t_j, if_pos c3]
          rw [e9]; exact ⟨congrArg (fun z => some (Value.int z)) rE2, _, _, rfl, ⟨rfl, rfl⟩⟩)
    · refine z_aload_n hz dX10_read_13 0 rfl rfl ?_
      refine z_ldc hz q2031 dX10_read_14 ?_
      refine z_callD (bs2 := [zO (ad 99) 10 (mFs ad iv), zI (G.2.2.1 0) (ad 0) 602 g, zI (G.2.2.1 0) (ad 4) 6 (upd er 1 (er 1 + 1)), zI (G.2.2.1 0) (ad 25) 4 wd, zI (G.2.2.1 0) (ad 26) 4 sz, zI (G.2.2.1 0) (ad 27) 160 nb, zI (G.2.2.1 0) (ad 17) 40 L]) (st2 := [.int (-1000001)]) hz hA (zk_V hz (rm := (zRm 0 0 0 0)) (As := [.int (-1000001)]) (rest := []) 1 q2032 q2034 qs35 q95 q2035 (by decide +kernel) ⟨Nat.le_of_ble_eq_true rfl, Nat.le_of_ble_eq_true rfl⟩ ⟨Nat.le_of_ble_eq_true rfl, Nat.le_of_ble_eq_true rfl⟩ (zRecv (q := (RX10, TX10, 29)) hz (zAt.mt 0 0 rfl rfl) rfl) rfl rfl (Nat.le_of_ble_eq_true rfl) dX10_read_16) (mM_finding ad iv er (-1000001) 1 (by decide) (by decide)) [0, 2] rfl (by decide) rfl rfl ?_
      exact z_iret hQ hz hr hlk dX10_read_19 (by
        have e9 : sRead g wd sz nb L (nI j) what = (1, 0, g) := by simp [sRead, inR, c1, (Int32.not_le.mp c2), t_j, Int32.not_le.mpr (Int32.not_le.mp c2)]
        rw [e9]; exact ⟨congrArg (fun z => some (Value.int z)) rE1, _, _, rfl, ⟨rfl, rfl⟩⟩)
set_option maxHeartbeats 2000000 in
theorem mM_findTables {G : zG} (ad : Nat → Nat) (iv g wt pl0 : Nat → Int32) (tb : Nat → Int64) (pq mm : Int32) (htx : ∀ u, u < 4 → txOk g u) : zMet G yX10_findTables (ws_ yX10_findTables cX10_findTables 12 none) (zRm 3 0 0 120) [.ref (ad 99), .int pq, .int mm] [zO (ad 99) 10 (mFs ad iv), zI (G.2.2.1 0) (ad 0) 602 g, zJ (G.2.2.1 3) (ad 20) 9 tb, zI (G.2.2.1 4) (ad 21) 8 wt, zI (G.2.2.1 0) (ad 12) 60 pl0] (fun v9 b9 => v9 = none ∧ ∃ f9 : Nat → Int32, b9 = [zO (ad 99) 10 (mFs ad iv), zI (G.2.2.1 0) (ad 0) 602 g, zJ (G.2.2.1 3) (ad 20) 9 ((tabF g pq mm tb wt 8).1), zI (G.2.2.1 4) (ad 21) 8 ((tabF g pq mm tb wt 8).2.1), zI (G.2.2.1 0) (ad 12) 60 f9]) := by
  refine zMet.of (by decide +kernel) (Nat.le_of_ble_eq_true rfl) ?_
  intro p e s m args below meth c A hz hA hr hlk hnm9 Q hQ
  refine z_lv (lv' := [(0, .ref (ad 99)), (1, .int pq), (2, .int mm)]) [0, 1, 2] rfl ?_
  refine z_iload_n hz dX10_findTables_0 1 rfl rfl ?_
  refine z_bipush hz 10 dX10_findTables_1 kb_10 ?_
  refine z_idiv hz dX10_findTables_3 (by decide) ?_
  refine z_istore_n (lv' := [(0, .ref (ad 99)), (1, .int pq), (2, .int mm), (3, .int (pq / 10))]) hz [1, 2, 3, 0] dX10_findTables_4 rfl (by decide) rfl ?_
  refine z_iload_n hz dX10_findTables_5 1 rfl rfl ?_
  refine z_bipush hz 10 dX10_findTables_6 kb_10 ?_
  refine z_irem hz dX10_findTables_8 (by decide) ?_
  refine z_istore (lv' := [(0, .ref (ad 99)), (1, .int pq), (2, .int mm), (3, .int (pq / 10)), (4, .int (pq - pq / 10 * 10))]) hz [1, 2, 3, 4, 0] dX10_findTables_9 (by decide) rfl ?_
  refine z_lconst hz 1 dX10_findTables_11 (by decide) ?_
  refine z_lstore (lv' := [(0, .ref (ad 99)), (1, .int pq), (2, .int mm), (3, .int (pq / 10)), (4, .int (pq - pq / 10 * 10)), (5, .long 1)]) hz [1, 2, 3, 4, 5, 0] dX10_findTables_12 (by decide) rfl ?_
  refine z_aload_n hz dX10_findTables_14 0 rfl rfl ?_
  refine z_get (C := RX10) (T := TX10) (N := 29) hz in_X10 (zAt.mt 0 0 rfl rfl) rfl 20 (by decide) q1949 (fun _ h9 => h9) rfl dX10_findTables_15 ?_
  refine z_bipush hz 8 dX10_findTables_18 kb_8 ?_
  refine z_lconst hz 0 dX10_findTables_20 (by decide) ?_
  refine z_last hz 2 0 rfl rfl kn_8 (by decide) (by decide) dX10_findTables_21 ?_
  refine z_bs (bs2 := [zO (ad 99) 10 (mFs ad iv), zI (G.2.2.1 0) (ad 0) 602 g, zJ (G.2.2.1 3) (ad 20) 9 (vp_updL tb 8 0), zI (G.2.2.1 4) (ad 21) 8 wt, zI (G.2.2.1 0) (ad 12) 60 pl0]) rfl ?_
  refine z_bipush hz 7 dX10_findTables_22 kb_7 ?_
  refine z_istore (lv' := [(0, .ref (ad 99)), (1, .int pq), (2, .int mm), (3, .int (pq / 10)), (4, .int (pq - pq / 10 * 10)), (5, .long 1), (7, .int 7)]) hz [1, 2, 3, 4, 5, 6, 0] dX10_findTables_24 (by decide) rfl ?_
  have lp_26 : ∀ (n9 : Nat) (d : Nat) (H : Nat) (tb2 : Nat → Int64) (wt2 : Nat → Int32) (pw : Int64) (pl2 : Nat → Int32), d ≤ 7 → H = 7 - d → tabF g pq mm tb wt d = (tb2, wt2, pw) → 8 - d < n9 → zW p G.1 e (zRm 3 0 0 120) s m args below meth c 12 Q 0 0 (zΦ G A s [zO (ad 99) 10 (mFs ad iv), zI (G.2.2.1 0) (ad 0) 602 g, zJ (G.2.2.1 3) (ad 20) 9 tb2, zI (G.2.2.1 4) (ad 21) 8 wt2, zI (G.2.2.1 0) (ad 12) 60 pl2]) 26 [(0, .ref (ad 99)), (1, .int pq), (2, .int mm), (3, .int (pq / 10)), (4, .int (pq - pq / 10 * 10)), (5, .long pw), (7, .int (nI H))] [] := by
    intro n9
    induction n9 with
    | zero => intro _ _ _ _ _ _ _ _ _ hm; exact absurd hm (Nat.not_lt_zero _)
    | succ n9 ih_26 =>
      intro d H tb2 wt2 pw pl2 hd hH hT hm_26
      refine z_iload hz dX10_findTables_26 6 rfl ?_
      refine z_if_ltF hz 129 dX10_findTables_28 (by decide) (nI_pos (by omega)) ?_
      refine z_iload_n hz dX10_findTables_31 3 rfl rfl ?_
      refine z_iload_n hz dX10_findTables_32 2 rfl rfl ?_
      refine z_imul hz dX10_findTables_33 ?_
      refine z_i2l hz dX10_findTables_34 ?_
      refine z_lload hz dX10_findTables_35 5 rfl ?_
      refine z_lmul hz dX10_findTables_37 ?_
      refine z_iload hz dX10_findTables_38 4 rfl ?_
      refine z_iload_n hz dX10_findTables_40 3 rfl rfl ?_
      refine z_isub hz dX10_findTables_41 ?_
      refine z_i2l hz dX10_findTables_42 ?_
      refine z_aload_n hz dX10_findTables_43 0 rfl rfl ?_
      refine z_get (C := RX10) (T := TX10) (N := 29) hz in_X10 (zAt.mt 0 0 rfl rfl) rfl 20 (by decide) q1949 (fun _ h9 => h9) rfl dX10_findTables_44 ?_
      refine z_iload hz dX10_findTables_47 6 rfl ?_
      refine z_iconst hz 1 dX10_findTables_49 ki_1 ?_
      refine z_iaddN hz rfl kn_1 dX10_findTables_50 ?_
      refine z_lald hz (zAt.mt 2 0 rfl rfl) rfl (by omega) (by decide) dX10_findTables_51 ?_
      refine z_lmul hz dX10_findTables_52 ?_
      refine z_ladd hz dX10_findTables_53 ?_
      refine z_lstore (lv' := [(0, .ref (ad 99)), (1, .int pq), (2, .int mm), (3, .int (pq / 10)), (4, .int (pq - pq / 10 * 10)), (5, .long pw), (7, .int (nI H)), (8, .long (((((pq / 10) * mm).toInt64) * pw) + ((((pq - pq / 10 * 10) - (pq / 10)).toInt64) * (tb2 (H + 1)))))]) hz [1, 2, 3, 4, 5, 6, 7, 0] dX10_findTables_54 (by decide) rfl ?_
      refine z_lload hz dX10_findTables_56 5 rfl ?_
      refine z_iload hz dX10_findTables_58 4 rfl ?_
      refine z_i2l hz dX10_findTables_60 ?_
      refine z_lmul hz dX10_findTables_61 ?_
      refine z_lstore (lv' := [(0, .ref (ad 99)), (1, .int pq), (2, .int mm), (3, .int (pq / 10)), (4, .int (pq - pq / 10 * 10)), (5, .long (pw * ((pq - pq / 10 * 10).toInt64))), (7, .int (nI H)), (8, .long (((((pq / 10) * mm).toInt64) * pw) + ((((pq - pq / 10 * 10) - (pq / 10)).toInt64) * (tb2 (H + 1)))))]) hz [1, 2, 3, 4, 5, 0, 6, 7] dX10_findTables_62 (by decide) rfl ?_
      refine z_aload_n hz dX10_findTables_64 0 rfl rfl ?_
      refine z_iconst hz 3 dX10_findTables_65 ki_3 ?_
      refine z_iload hz dX10_findTables_66 6 rfl ?_
      refine z_aload_n hz dX10_findTables_68 0 rfl rfl ?_
      refine z_get (C := RX10) (T := TX10) (N := 29) hz in_X10 (zAt.mt 0 0 rfl rfl) rfl 0 (by decide) q1929 (fun _ h9 => h9) rfl dX10_findTables_69 ?_
      refine z_sipush hz 284 dX10_findTables_72 ks_284 ?_
      refine z_iload hz dX10_findTables_75 6 rfl ?_
      refine z_iaddN hz kn_284 rfl dX10_findTables_77 ?_
      refine z_iald hz (zAt.mt 1 0 rfl rfl) rfl (by omega) (by decide) dX10_findTables_78 ?_
      refine z_iconst hz 0 dX10_findTables_79 ki_0 ?_
      refine z_callE (bs2 := fun f1 => [zO (ad 99) 10 (mFs ad iv), zI (G.2.2.1 0) (ad 0) 602 g, zJ (G.2.2.1 3) (ad 20) 9 tb2, zI (G.2.2.1 4) (ad 21) 8 wt2, zI (G.2.2.1 0) (ad 12) 60 f1]) (st2 := [.int (givenF g 3 (nI H) (g (284 + H)) 0)]) hz hA (zk_V hz (rm := (zRm 2 0 0 80)) (As := [.int 3, .int (nI H), .int (g (284 + H)), .int 0]) (rest := []) 4 q2098 q2100 qs41 q95 q2101 (by decide +kernel) ⟨Nat.le_of_ble_eq_true rfl, Nat.le_of_ble_eq_true rfl⟩ ⟨Nat.le_of_ble_eq_true rfl, Nat.le_of_ble_eq_true rfl⟩ (zRecv (q := (RX10, TX10, 29)) hz (zAt.mt 0 0 rfl rfl) rfl) rfl rfl (Nat.le_of_ble_eq_true rfl) dX10_findTables_80) (mM_given ad iv g pl2 3 (by decide) (nI H) (g (284 + H)) 0 (htx 3 (by decide))) [0, 1, 4] rfl (by decide) (fun _ => rfl) rfl (fun f1 => ?_)
      refine z_i2l hz dX10_findTables_83 ?_
      refine z_lload hz dX10_findTables_84 5 rfl ?_
      refine z_lmul hz dX10_findTables_86 ?_
      refine z_lstore (lv' := [(0, .ref (ad 99)), (1, .int pq), (2, .int mm), (3, .int (pq / 10)), (4, .int (pq - pq / 10 * 10)), (5, .long (pw * ((pq - pq / 10 * 10).toInt64))), (7, .int (nI H)), (8, .long (((((pq / 10) * mm).toInt64) * pw) + ((((pq - pq / 10 * 10) - (pq / 10)).toInt64) * (tb2 (H + 1))))), (10, .long (((givenF g 3 (nI H) (g (284 + H)) 0).toInt64) * (pw * ((pq - pq / 10 * 10).toInt64))))]) hz [1, 2, 3, 4, 5, 6, 7, 8, 0] dX10_findTables_87 (by decide) rfl ?_
      refine z_aload_n hz dX10_findTables_89 0 rfl rfl ?_
      refine z_get (C := RX10) (T := TX10) (N := 29) hz in_X10 (zAt.mt 0 0 rfl rfl) rfl 21 (by decide) q1950 (fun _ h9 => h9) rfl dX10_findTables_90 ?_
      refine z_iload hz dX10_findTables_93 6 rfl ?_
      refine z_lload hz dX10_findTables_95 7 rfl ?_
      refine z_lload hz dX10_findTables_97 8 rfl ?_
      refine z_lcmp hz dX10_findTables_99 ?_
      refine z_if_le hz 107 dX10_findTables_100 (by decide) (fun c2 => ?_) (fun c2 => ?_)
      · refine z_iconst hz 0 dX10_findTables_107 ki_0 ?_
        refine z_zast hz 3 0 rfl rfl rfl (by omega) (by decide) dX10_findTables_108 ?_
        refine z_bs (bs2 := [zO (ad 99) 10 (mFs ad iv), zI (G.2.2.1 0) (ad 0) 602 g, zJ (G.2.2.1 3) (ad 20) 9 tb2, zI (G.2.2.1 4) (ad 21) 8 (upd wt2 H 0), zI (G.2.2.1 0) (ad 12) 60 f1]) rfl ?_
        refine z_aload_n hz dX10_findTables_109 0 rfl rfl ?_
        refine z_get (C := RX10) (T := TX10) (N := 29) hz in_X10 (zAt.mt 0 0 rfl rfl) rfl 20 (by decide) q1949 (fun _ h9 => h9) rfl dX10_findTables_110 ?_
        refine z_iload hz dX10_findTables_113 6 rfl ?_
        refine z_lload hz dX10_findTables_115 8 rfl ?_
        refine z_lload hz dX10_findTables_117 7 rfl ?_
        refine z_mmaxl hz q2387 (Nat.le_of_ble_eq_true rfl) (Nat.le_of_ble_eq_true rfl) ⟨Nat.le_of_ble_eq_true rfl, Nat.le_of_ble_eq_true rfl⟩ dX10_findTables_119 ?_
        refine z_last hz 2 0 rfl rfl rfl (by omega) (by decide) dX10_findTables_122 ?_
        refine z_bs (bs2 := [zO (ad 99) 10 (mFs ad iv), zI (G.2.2.1 0) (ad 0) 602 g, zJ (G.2.2.1 3) (ad 20) 9 (vp_updL tb2 H (maxL (((givenF g 3 (nI H) (g (284 + H)) 0).toInt64) * (pw * ((pq - pq / 10 * 10).toInt64))) (((((pq / 10) * mm).toInt64) * pw) + ((((pq - pq / 10 * 10) - (pq / 10)).toInt64) * (tb2 (H + 1)))))), zI (G.2.2.1 4) (ad 21) 8 (upd wt2 H 0), zI (G.2.2.1 0) (ad 12) 60 f1]) rfl ?_
        have hE : tabF g pq mm tb wt (d + 1) = (vp_updL tb2 H (maxL (((givenF g 3 (nI H) (g (284 + H)) 0).toInt64) * (pw * ((pq - pq / 10 * 10).toInt64))) (((((pq / 10) * mm).toInt64) * pw) + ((((pq - pq / 10 * 10) - (pq / 10)).toInt64) * (tb2 (H + 1))))), upd wt2 H 0, pw * ((pq - pq / 10 * 10).toInt64)) := by simp only [tabF]; rw [hT, ← hH, if_pos c2]
        by_cases hd7 : d = 7
        · refine z_lv (lv' := [(0, .ref (ad 99)), (1, .int pq), (2, .int mm), (3, .int (pq / 10)), (4, .int (pq - pq / 10 * 10)), (5, .long (pw * ((pq - pq / 10 * 10).toInt64))), (7, .int (nI H))]) [0, 1, 2, 3, 4, 5, 6] rfl ?_
          refine z_iinc (lv' := [(0, .ref (ad 99)), (1, .int pq), (2, .int mm), (3, .int (pq / 10)), (4, .int (pq - pq / 10 * 10)), (5, .long (pw * ((pq - pq / 10 * 10).toInt64))), (7, .int (-1))]) hz (-1) 6 [1, 2, 3, 4, 5, 6, 0] dX10_findTables_123 rfl (by rw [hH, hd7]; decide) (by decide) rfl ?_
          refine z_goto hz 26 dX10_findTables_126 (by decide) ?_
          refine z_iload hz dX10_findTables_26 6 rfl ?_
          refine z_if_ltT hz 129 dX10_findTables_28 (by decide) (by decide) ?_
          exact z_vret hQ hz hr hlk dX10_findTables_129 ⟨rfl, _, by rw [hd7] at hE; rw [hE]⟩
        · refine z_lv (lv' := [(0, .ref (ad 99)), (1, .int pq), (2, .int mm), (3, .int (pq / 10)), (4, .int (pq - pq / 10 * 10)), (5, .long (pw * ((pq - pq / 10 * 10).toInt64))), (7, .int (nI H))]) [0, 1, 2, 3, 4, 5, 6] rfl ?_
          refine z_iinc (lv' := [(0, .ref (ad 99)), (1, .int pq), (2, .int mm), (3, .int (pq / 10)), (4, .int (pq - pq / 10 * 10)), (5, .long (pw * ((pq - pq / 10 * 10).toInt64))), (7, .int (nI (H - 1)))]) hz (nI (H - 1)) 6 [1, 2, 3, 4, 5, 6, 0] dX10_findTables_123 rfl (nI_decp (by omega)) (by decide) rfl ?_
          refine z_goto hz 26 dX10_findTables_126 (by decide) ?_
          exact ih_26 (d + 1) (H - 1) (vp_updL tb2 H (maxL (((givenF g 3 (nI H) (g (284 + H)) 0).toInt64) * (pw * ((pq - pq / 10 * 10).toInt64))) (((((pq / 10) * mm).toInt64) * pw) + ((((pq - pq / 10 * 10) - (pq / 10)).toInt64) * (tb2 (H + 1)))))) (upd wt2 H 0) (pw * ((pq - pq / 10 * 10).toInt64)) f1 (by omega) (by omega) hE (by omega)
      · refine z_iconst hz 1 dX10_findTables_103 ki_1 ?_
        refine z_goto hz 108 dX10_findTables_104 (by decide) ?_
        refine z_zast hz 3 0 rfl rfl rfl (by omega) (by decide) dX10_findTables_108 ?_
        refine z_bs (bs2 := [zO (ad 99) 10 (mFs ad iv), zI (G.2.2.1 0) (ad 0) 602 g, zJ (G.2.2.1 3) (ad 20) 9 tb2, zI (G.2.2.1 4) (ad 21) 8 (upd wt2 H 1), zI (G.2.2.1 0) (ad 12) 60 f1]) rfl ?_
        refine z_aload_n hz dX10_findTables_109 0 rfl rfl ?_
        refine z_get (C := RX10) (T := TX10) (N := 29) hz in_X10 (zAt.mt 0 0 rfl rfl) rfl 20 (by decide) q1949 (fun _ h9 => h9) rfl dX10_findTables_110 ?_
        refine z_iload hz dX10_findTables_113 6 rfl ?_
        refine z_lload hz dX10_findTables_115 8 rfl ?_
        refine z_lload hz dX10_findTables_117 7 rfl ?_
        refine z_mmaxl hz q2387 (Nat.le_of_ble_eq_true rfl) (Nat.le_of_ble_eq_true rfl) ⟨Nat.le_of_ble_eq_true rfl, Nat.le_of_ble_eq_true rfl⟩ dX10_findTables_119 ?_
        refine z_last hz 2 0 rfl rfl rfl (by omega) (by decide) dX10_findTables_122 ?_
        refine z_bs (bs2 := [zO (ad 99) 10 (mFs ad iv), zI (G.2.2.1 0) (ad 0) 602 g, zJ (G.2.2.1 3) (ad 20) 9 (vp_updL tb2 H (maxL (((givenF g 3 (nI H) (g (284 + H)) 0).toInt64) * (pw * ((pq - pq / 10 * 10).toInt64))) (((((pq / 10) * mm).toInt64) * pw) + ((((pq - pq / 10 * 10) - (pq / 10)).toInt64) * (tb2 (H + 1)))))), zI (G.2.2.1 4) (ad 21) 8 (upd wt2 H 1), zI (G.2.2.1 0) (ad 12) 60 f1]) rfl ?_
        have hE : tabF g pq mm tb wt (d + 1) = (vp_updL tb2 H (maxL (((givenF g 3 (nI H) (g (284 + H)) 0).toInt64) * (pw * ((pq - pq / 10 * 10).toInt64))) (((((pq / 10) * mm).toInt64) * pw) + ((((pq - pq / 10 * 10) - (pq / 10)).toInt64) * (tb2 (H + 1))))), upd wt2 H 1, pw * ((pq - pq / 10 * 10).toInt64)) := by simp only [tabF]; rw [hT, ← hH, if_neg c2]
        by_cases hd7 : d = 7
        · refine z_lv (lv' := [(0, .ref (ad 99)), (1, .int pq), (2, .int mm), (3, .int (pq / 10)), (4, .int (pq - pq / 10 * 10)), (5, .long (pw * ((pq - pq / 10 * 10).toInt64))), (7, .int (nI H))]) [0, 1, 2, 3, 4, 5, 6] rfl ?_
          refine z_iinc (lv' := [(0, .ref (ad 99)), (1, .int pq), (2, .int mm), (3, .int (pq / 10)), (4, .int (pq - pq / 10 * 10)), (5, .long (pw * ((pq - pq / 10 * 10).toInt64))), (7, .int (-1))]) hz (-1) 6 [1, 2, 3, 4, 5, 6, 0] dX10_findTables_123 rfl (by rw [hH, hd7]; decide) (by decide) rfl ?_
          refine z_goto hz 26 dX10_findTables_126 (by decide) ?_
          refine z_iload hz dX10_findTables_26 6 rfl ?_
          refine z_if_ltT hz 129 dX10_findTables_28 (by decide) (by decide) ?_
          exact z_vret hQ hz hr hlk dX10_findTables_129 ⟨rfl, _, by rw [hd7] at hE; rw [hE]⟩
        · refine z_lv (lv' := [(0, .ref (ad 99)), (1, .int pq), (2, .int mm), (3, .int (pq / 10)), (4, .int (pq - pq / 10 * 10)), (5, .long (pw * ((pq - pq / 10 * 10).toInt64))), (7, .int (nI H))]) [0, 1, 2, 3, 4, 5, 6] rfl ?_
          refine z_iinc (lv' := [(0, .ref (ad 99)), (1, .int pq), (2, .int mm), (3, .int (pq / 10)), (4, .int (pq - pq / 10 * 10)), (5, .long (pw * ((pq - pq / 10 * 10).toInt64))), (7, .int (nI (H - 1)))]) hz (nI (H - 1)) 6 [1, 2, 3, 4, 5, 6, 0] dX10_findTables_123 rfl (nI_decp (by omega)) (by decide) rfl ?_
          refine z_goto hz 26 dX10_findTables_126 (by decide) ?_
          exact ih_26 (d + 1) (H - 1) (vp_updL tb2 H (maxL (((givenF g 3 (nI H) (g (284 + H)) 0).toInt64) * (pw * ((pq - pq / 10 * 10).toInt64))) (((((pq / 10) * mm).toInt64) * pw) + ((((pq - pq / 10 * 10) - (pq / 10)).toInt64) * (tb2 (H + 1)))))) (upd wt2 H 1) (pw * ((pq - pq / 10 * 10).toInt64)) f1 (by omega) (by omega) hE (by omega)
  exact lp_26 ((8 - 0) + 1) 0 7 (vp_updL tb 8 0) wt 1 pl0 (Nat.zero_le _) rfl rfl (Nat.lt_succ_self _)
set_option maxHeartbeats 1000000 in
theorem mM_table {G : zG} (ad : Nat → Nat) (iv g er wt pl : Nat → Int32) (tb : Nat → Int64) (hour pq mm : Int32) (htx : ∀ u, u < 4 → txOk g u) : zMet G yX10_table (ws_ yX10_table cX10_table 4 (some .long)) (zRm 4 0 0 160) [.ref (ad 99), .int hour, .int pq, .int mm] [zO (ad 99) 10 (mFs ad iv), zI (G.2.2.1 0) (ad 0) 602 g, zI (G.2.2.1 0) (ad 4) 6 er, zJ (G.2.2.1 3) (ad 20) 9 tb, zI (G.2.2.1 4) (ad 21) 8 wt, zI (G.2.2.1 0) (ad 12) 60 pl] (fun v9 b9 => v9 = some (.long (oR (sTable g tb wt hour pq mm))) ∧ ∃ (tb9 : Nat → Int64) (wt9 pl9 : Nat → Int32), b9 = [zO (ad 99) 10 (mFs ad iv), zI (G.2.2.1 0) (ad 0) 602 g, zI (G.2.2.1 0) (ad 4) 6 (oE er (sTable g tb wt hour pq mm)), zJ (G.2.2.1 3) (ad 20) 9 tb9, zI (G.2.2.1 4) (ad 21) 8 wt9, zI (G.2.2.1 0) (ad 12) 60 pl9]) := by
  refine zMet.of (by decide +kernel) (Nat.le_of_ble_eq_true rfl) ?_
  intro p e s m args below meth c A hz hA hr hlk hnm9 Q hQ
  refine z_lv (lv' := [(0, .ref (ad 99)), (1, .int hour), (2, .int pq), (3, .int mm)]) [0, 1, 2, 3] rfl ?_
  refine z_iload_n hz dX10_table_0 1 rfl rfl ?_
  refine z_iconst hz 0 dX10_table_1 ki_0 ?_
  refine z_bipush hz 8 dX10_table_2 kb_8 ?_
  refine z_callRD (st2 := [.int (zB (inR hour 0 8))]) hz zKp.mt (zk_S hz (rm := (zRm 0 0 0 0)) (As := [.int hour, .int 0, .int 8]) (rest := []) 3 q2023 q2024 q95 q2025 (by decide +kernel) ⟨Nat.le_of_ble_eq_true rfl, Nat.le_of_ble_eq_true rfl⟩ ⟨Nat.le_of_ble_eq_true rfl, Nat.le_of_ble_eq_true rfl⟩ rfl rfl (Nat.le_of_ble_eq_true rfl) dX10_table_4) (mM_within hour 0 8) (fun _ _ _ => zP0) rfl ?_
  refine z_ifB_eq hz 27 dX10_table_7 (by decide) (fun c1 => ?_) (fun c1 => ?_)
  · refine z_aload_n hz dX10_table_27 0 rfl rfl ?_
    refine z_ldc hz q2031 dX10_table_28 ?_
    refine z_callD (bs2 := [zO (ad 99) 10 (mFs ad iv), zI (G.2.2.1 0) (ad 0) 602 g, zI (G.2.2.1 0) (ad 4) 6 (upd er 1 (er 1 + 1)), zJ (G.2.2.1 3) (ad 20) 9 tb, zI (G.2.2.1 4) (ad 21) 8 wt, zI (G.2.2.1 0) (ad 12) 60 pl]) (st2 := [.int (-1000001)]) hz hA (zk_V hz (rm := (zRm 0 0 0 0)) (As := [.int (-1000001)]) (rest := []) 1 q2032 q2034 qs35 q95 q2035 (by decide +kernel) ⟨Nat.le_of_ble_eq_true rfl, Nat.le_of_ble_eq_true rfl⟩ ⟨Nat.le_of_ble_eq_true rfl, Nat.le_of_ble_eq_true rfl⟩ (zRecv (q := (RX10, TX10, 29)) hz (zAt.mt 0 0 rfl rfl) rfl) rfl rfl (Nat.le_of_ble_eq_true rfl) dX10_table_30) (mM_finding ad iv er (-1000001) 1 (by decide) (by decide)) [0, 2] rfl (by decide) rfl rfl ?_
    refine z_i2l hz dX10_table_33 ?_
    exact z_lret hQ hz hr hlk dX10_table_34 (by
      have e9 : sTable g tb wt hour pq mm = (1, 0) := by unfold sTable; rw [if_neg (fun h9 => c1 h9.1)]
      rw [e9]; exact ⟨congrArg (fun z => some (Value.long z)) oR_1.symm, _, _, _, rfl⟩)
  · refine z_iload_n hz dX10_table_10 2 rfl rfl ?_
    refine z_callRD (st2 := [.int (zB (isPartP pq))]) hz zKp.mt (zk_S hz (rm := (zRm 1 0 0 30)) (As := [.int pq]) (rest := []) 1 q2303 q2304 q95 q2305 (by decide +kernel) ⟨Nat.le_of_ble_eq_true rfl, Nat.le_of_ble_eq_true rfl⟩ ⟨Nat.le_of_ble_eq_true rfl, Nat.le_of_ble_eq_true rfl⟩ rfl rfl (Nat.le_of_ble_eq_true rfl) dX10_table_11) (mM_isPart pq) (fun _ _ _ => zP0) rfl ?_
    refine z_ifB_eq hz 27 dX10_table_14 (by decide) (fun c2 => ?_) (fun c2 => ?_)
    · refine z_aload_n hz dX10_table_27 0 rfl rfl ?_
      refine z_ldc hz q2031 dX10_table_28 ?_
      refine z_callD (bs2 := [zO (ad 99) 10 (mFs ad iv), zI (G.2.2.1 0) (ad 0) 602 g, zI (G.2.2.1 0) (ad 4) 6 (upd er 1 (er 1 + 1)), zJ (G.2.2.1 3) (ad 20) 9 tb, zI (G.2.2.1 4) (ad 21) 8 wt, zI (G.2.2.1 0) (ad 12) 60 pl]) (st2 := [.int (-1000001)]) hz hA (zk_V hz (rm := (zRm 0 0 0 0)) (As := [.int (-1000001)]) (rest := []) 1 q2032 q2034 qs35 q95 q2035 (by decide +kernel) ⟨Nat.le_of_ble_eq_true rfl, Nat.le_of_ble_eq_true rfl⟩ ⟨Nat.le_of_ble_eq_true rfl, Nat.le_of_ble_eq_true rfl⟩ (zRecv (q := (RX10, TX10, 29)) hz (zAt.mt 0 0 rfl rfl) rfl) rfl rfl (Nat.le_of_ble_eq_true rfl) dX10_table_30) (mM_finding ad iv er (-1000001) 1 (by decide) (by decide)) [0, 2] rfl (by decide) rfl rfl ?_
      refine z_i2l hz dX10_table_33 ?_
      exact z_lret hQ hz hr hlk dX10_table_34 (by
        have e9 : sTable g tb wt hour pq mm = (1, 0) := by unfold sTable; rw [if_neg (fun h9 => c2 h9.2.1)]
        rw [e9]; exact ⟨congrArg (fun z => some (Value.long z)) oR_1.symm, _, _, _, rfl⟩)
    · refine z_iload_n hz dX10_table_17 3 rfl rfl ?_
      refine z_iconst hz 0 dX10_table_18 ki_0 ?_
      refine z_bipush hz 24 dX10_table_19 kb_24 ?_
      refine z_callRD (st2 := [.int (zB (inR mm 0 24))]) hz zKp.mt (zk_S hz (rm := (zRm 0 0 0 0)) (As := [.int mm, .int 0, .int 24]) (rest := []) 3 q2023 q2024 q95 q2025 (by decide +kernel) ⟨Nat.le_of_ble_eq_true rfl, Nat.le_of_ble_eq_true rfl⟩ ⟨Nat.le_of_ble_eq_true rfl, Nat.le_of_ble_eq_true rfl⟩ rfl rfl (Nat.le_of_ble_eq_true rfl) dX10_table_21) (mM_within mm 0 24) (fun _ _ _ => zP0) rfl ?_
      refine z_ifB_ne hz 35 dX10_table_24 (by decide) (fun c3 => ?_) (fun c3 => ?_)
      · obtain ⟨j, j_lo, j_hi, rfl⟩ := inR_nat 0 8 kn_0 kn_8 (by decide) (by decide) c1
        have t_j : tN (nI j) = j := nI_clamp (by omega)
        refine z_aload_n hz dX10_table_35 0 rfl rfl ?_
        refine z_iload_n hz dX10_table_36 2 rfl rfl ?_
        refine z_iload_n hz dX10_table_37 3 rfl rfl ?_
        refine z_callE (bs2 := fun f4 => [zO (ad 99) 10 (mFs ad iv), zI (G.2.2.1 0) (ad 0) 602 g, zI (G.2.2.1 0) (ad 4) 6 er, zJ (G.2.2.1 3) (ad 20) 9 ((tabF g pq mm tb wt 8).1), zI (G.2.2.1 4) (ad 21) 8 ((tabF g pq mm tb wt 8).2.1), zI (G.2.2.1 0) (ad 12) 60 f4]) (st2 := []) hz hA (zk_V hz (rm := (zRm 3 0 0 120)) (As := [.int pq, .int mm]) (rest := []) 2 q2383 q2385 qs71 q95 q2386 (by decide +kernel) ⟨Nat.le_of_ble_eq_true rfl, Nat.le_of_ble_eq_true rfl⟩ ⟨Nat.le_of_ble_eq_true rfl, Nat.le_of_ble_eq_true rfl⟩ (zRecv (q := (RX10, TX10, 29)) hz (zAt.mt 0 0 rfl rfl) rfl) rfl rfl (Nat.le_of_ble_eq_true rfl) dX10_table_38) (mM_findTables ad iv g wt pl tb pq mm htx) [0, 1, 3, 4, 5] rfl (by decide) (fun _ => rfl) rfl (fun f4 => ?_)
        refine z_aload_n hz dX10_table_41 0 rfl rfl ?_
        refine z_get (C := RX10) (T := TX10) (N := 29) hz in_X10 (zAt.mt 0 0 rfl rfl) rfl 20 (by decide) q1949 (fun _ h9 => h9) rfl dX10_table_42 ?_
        refine z_iload_n hz dX10_table_45 1 rfl rfl ?_
        refine z_lald hz (zAt.mt 3 0 rfl rfl) rfl (by omega) (by decide) dX10_table_46 ?_
        exact z_lret hQ hz hr hlk dX10_table_47 (by
          have e9 : sTable g tb wt (nI j) pq mm = (0, ((tabF g pq mm tb wt 8).1) j) := by unfold sTable; rw [if_pos ⟨c1, c2, c3⟩, t_j]
          rw [e9]; exact ⟨congrArg (fun z => some (Value.long z)) oR_0.symm, _, _, _, rfl⟩)
      · refine z_aload_n hz dX10_table_27 0 rfl rfl ?_
        refine z_ldc hz q2031 dX10_table_28 ?_
        refine z_callD (bs2 := [zO (ad 99) 10 (mFs ad iv), zI (G.2.2.1 0) (ad 0) 602 g, zI (G.2.2.1 0) (ad 4) 6 (upd er 1 (er 1 + 1)), zJ (G.2.2.1 3) (ad 20) 9 tb, zI (G.2.2.1 4) (ad 21) 8 wt, zI (G.2.2.1 0) (ad 12) 60 pl]) (st2 := [.int (-1000001)]) hz hA (zk_V hz (rm := (zRm 0 0 0 0)) (As := [.int (-1000001)]) (rest := []) 1 q2032 q2034 qs35 q95 q2035 (by decide +kernel) ⟨Nat.le_of_ble_eq_true rfl, Nat.le_of_ble_eq_true rfl⟩ ⟨Nat.le_of_ble_eq_true rfl, Nat.le_of_ble_eq_true rfl⟩ (zRecv (q := (RX10, TX10, 29)) hz (zAt.mt 0 0 rfl rfl) rfl) rfl rfl (Nat.le_of_ble_eq_true rfl) dX10_table_30) (mM_finding ad iv er (-1000001) 1 (by decide) (by decide)) [0, 2] rfl (by decide) rfl rfl ?_
        refine z_i2l hz dX10_table_33 ?_
        exact z_lret hQ hz hr hlk dX10_table_34 (by
          have e9 : sTable g tb wt hour pq mm = (1, 0) := by unfold sTable; rw [if_neg (fun h9 => c3 h9.2.2)]
          rw [e9]; exact ⟨congrArg (fun z => some (Value.long z)) oR_1.symm, _, _, _, rfl⟩)
set_option maxHeartbeats 1000000 in
theorem mM_decide {G : zG} (ad : Nat → Nat) (iv g er wt pl : Nat → Int32) (tb : Nat → Int64) (hour pq mm : Int32) (htx : ∀ u, u < 4 → txOk g u) : zMet G yX10_decide (ws_ yX10_decide cX10_decide 4 (some .int)) (zRm 4 0 0 160) [.ref (ad 99), .int hour, .int pq, .int mm] [zO (ad 99) 10 (mFs ad iv), zI (G.2.2.1 0) (ad 0) 602 g, zI (G.2.2.1 0) (ad 4) 6 er, zJ (G.2.2.1 3) (ad 20) 9 tb, zI (G.2.2.1 4) (ad 21) 8 wt, zI (G.2.2.1 0) (ad 12) 60 pl] (fun v9 b9 => v9 = some (.int (rOf (sDecide g tb wt hour pq mm))) ∧ ∃ (tb9 : Nat → Int64) (wt9 pl9 : Nat → Int32), b9 = [zO (ad 99) 10 (mFs ad iv), zI (G.2.2.1 0) (ad 0) 602 ((sDecide g tb wt hour pq mm).2.2), zI (G.2.2.1 0) (ad 4) 6 (eOf er (sDecide g tb wt hour pq mm)), zJ (G.2.2.1 3) (ad 20) 9 tb9, zI (G.2.2.1 4) (ad 21) 8 wt9, zI (G.2.2.1 0) (ad 12) 60 pl9]) := by
  refine zMet.of (by decide +kernel) (Nat.le_of_ble_eq_true rfl) ?_
  intro p e s m args below meth c A hz hA hr hlk hnm9 Q hQ
  refine z_lv (lv' := [(0, .ref (ad 99)), (1, .int hour), (2, .int pq), (3, .int mm)]) [0, 1, 2, 3] rfl ?_
  refine z_iload_n hz dX10_decide_0 1 rfl rfl ?_
  refine z_iconst hz 0 dX10_decide_1 ki_0 ?_
  refine z_bipush hz 7 dX10_decide_2 kb_7 ?_
  refine z_callRD (st2 := [.int (zB (inR hour 0 7))]) hz zKp.mt (zk_S hz (rm := (zRm 0 0 0 0)) (As := [.int hour, .int 0, .int 7]) (rest := []) 3 q2023 q2024 q95 q2025 (by decide +kernel) ⟨Nat.le_of_ble_eq_true rfl, Nat.le_of_ble_eq_true rfl⟩ ⟨Nat.le_of_ble_eq_true rfl, Nat.le_of_ble_eq_true rfl⟩ rfl rfl (Nat.le_of_ble_eq_true rfl) dX10_decide_4) (mM_within hour 0 7) (fun _ _ _ => zP0) rfl ?_
  refine z_ifB_eq hz 27 dX10_decide_7 (by decide) (fun c1 => ?_) (fun c1 => ?_)
  · refine z_aload_n hz dX10_decide_27 0 rfl rfl ?_
    refine z_ldc hz q2031 dX10_decide_28 ?_
    refine z_callD (bs2 := [zO (ad 99) 10 (mFs ad iv), zI (G.2.2.1 0) (ad 0) 602 g, zI (G.2.2.1 0) (ad 4) 6 (upd er 1 (er 1 + 1)), zJ (G.2.2.1 3) (ad 20) 9 tb, zI (G.2.2.1 4) (ad 21) 8 wt, zI (G.2.2.1 0) (ad 12) 60 pl]) (st2 := [.int (-1000001)]) hz hA (zk_V hz (rm := (zRm 0 0 0 0)) (As := [.int (-1000001)]) (rest := []) 1 q2032 q2034 qs35 q95 q2035 (by decide +kernel) ⟨Nat.le_of_ble_eq_true rfl, Nat.le_of_ble_eq_true rfl⟩ ⟨Nat.le_of_ble_eq_true rfl, Nat.le_of_ble_eq_true rfl⟩ (zRecv (q := (RX10, TX10, 29)) hz (zAt.mt 0 0 rfl rfl) rfl) rfl rfl (Nat.le_of_ble_eq_true rfl) dX10_decide_30) (mM_finding ad iv er (-1000001) 1 (by decide) (by decide)) [0, 2] rfl (by decide) rfl rfl ?_
    exact z_iret hQ hz hr hlk dX10_decide_33 (by
      have e9 : sDecide g tb wt hour pq mm = (1, 0, g) := by unfold sDecide; rw [if_neg (fun h9 => c1 h9.1)]
      rw [e9]; exact ⟨congrArg (fun z => some (Value.int z)) rE1, _, _, _, rfl⟩)
  · refine z_iload_n hz dX10_decide_10 2 rfl rfl ?_
    refine z_callRD (st2 := [.int (zB (isPartP pq))]) hz zKp.mt (zk_S hz (rm := (zRm 1 0 0 30)) (As := [.int pq]) (rest := []) 1 q2303 q2304 q95 q2305 (by decide +kernel) ⟨Nat.le_of_ble_eq_true rfl, Nat.le_of_ble_eq_true rfl⟩ ⟨Nat.le_of_ble_eq_true rfl, Nat.le_of_ble_eq_true rfl⟩ rfl rfl (Nat.le_of_ble_eq_true rfl) dX10_decide_11) (mM_isPart pq) (fun _ _ _ => zP0) rfl ?_
    refine z_ifB_eq hz 27 dX10_decide_14 (by decide) (fun c2 => ?_) (fun c2 => ?_)
    · refine z_aload_n hz dX10_decide_27 0 rfl rfl ?_
      refine z_ldc hz q2031 dX10_decide_28 ?_
      refine z_callD (bs2 := [zO (ad 99) 10 (mFs ad iv), zI (G.2.2.1 0) (ad 0) 602 g, zI (G.2.2.1 0) (ad 4) 6 (upd er 1 (er 1 + 1)), zJ (G.2.2.1 3) (ad 20) 9 tb, zI (G.2.2.1 4) (ad 21) 8 wt, zI (G.2.2.1 0) (ad 12) 60 pl]) (st2 := [.int (-1000001)]) hz hA (zk_V hz (rm := (zRm 0 0 0 0)) (As := [.int (-1000001)]) (rest := []) 1 q2032 q2034 qs35 q95 q2035 (by decide +kernel) ⟨Nat.le_of_ble_eq_true rfl, Nat.le_of_ble_eq_true rfl⟩ ⟨Nat.le_of_ble_eq_true rfl, Nat.le_of_ble_eq_true rfl⟩ (zRecv (q := (RX10, TX10, 29)) hz (zAt.mt 0 0 rfl rfl) rfl) rfl rfl (Nat.le_of_ble_eq_true rfl) dX10_decide_30) (mM_finding ad iv er (-1000001) 1 (by decide) (by decide)) [0, 2] rfl (by decide) rfl rfl ?_
      exact z_iret hQ hz hr hlk dX10_decide_33 (by
        have e9 : sDecide g tb wt hour pq mm = (1, 0, g) := by unfold sDecide; rw [if_neg (fun h9 => c2 h9.2.1)]
        rw [e9]; exact ⟨congrArg (fun z => some (Value.int z)) rE1, _, _, _, rfl⟩)
    · refine z_iload_n hz dX10_decide_17 3 rfl rfl ?_
      refine z_iconst hz 0 dX10_decide_18 ki_0 ?_
      refine z_bipush hz 24 dX10_decide_19 kb_24 ?_
      refine z_callRD (st2 := [.int (zB (inR mm 0 24))]) hz zKp.mt (zk_S hz (rm := (zRm 0 0 0 0)) (As := [.int mm, .int 0, .int 24]) (rest := []) 3 q2023 q2024 q95 q2025 (by decide +kernel) ⟨Nat.le_of_ble_eq_true rfl, Nat.le_of_ble_eq_true rfl⟩ ⟨Nat.le_of_ble_eq_true rfl, Nat.le_of_ble_eq_true rfl⟩ rfl rfl (Nat.le_of_ble_eq_true rfl) dX10_decide_21) (mM_within mm 0 24) (fun _ _ _ => zP0) rfl ?_
      refine z_ifB_ne hz 34 dX10_decide_24 (by decide) (fun c3 => ?_) (fun c3 => ?_)
      · obtain ⟨j, j_lo, j_hi, rfl⟩ := inR_nat 0 7 kn_0 kn_7 (by decide) (by decide) c1
        have t_j : tN (nI j) = j := nI_clamp (by omega)
        refine z_aload_n hz dX10_decide_34 0 rfl rfl ?_
        refine z_iload_n hz dX10_decide_35 2 rfl rfl ?_
        refine z_iload_n hz dX10_decide_36 3 rfl rfl ?_
        refine z_callE (bs2 := fun f4 => [zO (ad 99) 10 (mFs ad iv), zI (G.2.2.1 0) (ad 0) 602 g, zI (G.2.2.1 0) (ad 4) 6 er, zJ (G.2.2.1 3) (ad 20) 9 ((tabF g pq mm tb wt 8).1), zI (G.2.2.1 4) (ad 21) 8 ((tabF g pq mm tb wt 8).2.1), zI (G.2.2.1 0) (ad 12) 60 f4]) (st2 := []) hz hA (zk_V hz (rm := (zRm 3 0 0 120)) (As := [.int pq, .int mm]) (rest := []) 2 q2383 q2385 qs71 q95 q2386 (by decide +kernel) ⟨Nat.le_of_ble_eq_true rfl, Nat.le_of_ble_eq_true rfl⟩ ⟨Nat.le_of_ble_eq_true rfl, Nat.le_of_ble_eq_true rfl⟩ (zRecv (q := (RX10, TX10, 29)) hz (zAt.mt 0 0 rfl rfl) rfl) rfl rfl (Nat.le_of_ble_eq_true rfl) dX10_decide_37) (mM_findTables ad iv g wt pl tb pq mm htx) [0, 1, 3, 4, 5] rfl (by decide) (fun _ => rfl) rfl (fun f4 => ?_)
        refine z_aload_n hz dX10_decide_40 0 rfl rfl ?_
        refine z_get (C := RX10) (T := TX10) (N := 29) hz in_X10 (zAt.mt 0 0 rfl rfl) rfl 21 (by decide) q1950 (fun _ h9 => h9) rfl dX10_decide_41 ?_
        refine z_iload_n hz dX10_decide_44 1 rfl rfl ?_
        refine z_zald hz (zAt.mt 4 0 rfl rfl) rfl (by omega) (by decide) dX10_decide_45 ?_
        refine z_if_eq hz 53 dX10_decide_46 (by decide) (fun c5 => ?_) (fun c5 => ?_)
        · refine z_iconst hz 0 dX10_decide_53 ki_0 ?_
          exact z_iret hQ hz hr hlk dX10_decide_54 (by
            have e9 : sDecide g tb wt (nI j) pq mm = (0, 0, g) := by unfold sDecide; rw [if_pos ⟨c1, c2, c3⟩, t_j, if_pos c5]
            rw [e9]; exact ⟨congrArg (fun z => some (Value.int z)) rOf_0.symm, _, _, _, rfl⟩)
        · refine z_iconst hz 1 dX10_decide_49 ki_1 ?_
          refine z_goto hz 54 dX10_decide_50 (by decide) ?_
          exact z_iret hQ hz hr hlk dX10_decide_54 (by
            have e9 : sDecide g tb wt (nI j) pq mm = (0, 1, g) := by unfold sDecide; rw [if_pos ⟨c1, c2, c3⟩, t_j, if_neg c5]
            rw [e9]; exact ⟨congrArg (fun z => some (Value.int z)) rOf_0.symm, _, _, _, rfl⟩)
      · refine z_aload_n hz dX10_decide_27 0 rfl rfl ?_
        refine z_ldc hz q2031 dX10_decide_28 ?_
        refine z_callD (bs2 := [zO (ad 99) 10 (mFs ad iv), zI (G.2.2.1 0) (ad 0) 602 g, zI (G.2.2.1 0) (ad 4) 6 (upd er 1 (er 1 + 1)), zJ (G.2.2.1 3) (ad 20) 9 tb, zI (G.2.2.1 4) (ad 21) 8 wt, zI (G.2.2.1 0) (ad 12) 60 pl]) (st2 := [.int (-1000001)]) hz hA (zk_V hz (rm := (zRm 0 0 0 0)) (As := [.int (-1000001)]) (rest := []) 1 q2032 q2034 qs35 q95 q2035 (by decide +kernel) ⟨Nat.le_of_ble_eq_true rfl, Nat.le_of_ble_eq_true rfl⟩ ⟨Nat.le_of_ble_eq_true rfl, Nat.le_of_ble_eq_true rfl⟩ (zRecv (q := (RX10, TX10, 29)) hz (zAt.mt 0 0 rfl rfl) rfl) rfl rfl (Nat.le_of_ble_eq_true rfl) dX10_decide_30) (mM_finding ad iv er (-1000001) 1 (by decide) (by decide)) [0, 2] rfl (by decide) rfl rfl ?_
        exact z_iret hQ hz hr hlk dX10_decide_33 (by
          have e9 : sDecide g tb wt hour pq mm = (1, 0, g) := by unfold sDecide; rw [if_neg (fun h9 => c3 h9.2.2)]
          rw [e9]; exact ⟨congrArg (fun z => some (Value.int z)) rE1, _, _, _, rfl⟩)
