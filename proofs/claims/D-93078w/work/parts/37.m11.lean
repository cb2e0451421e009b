set_option maxRecDepth 100000
set_option maxHeartbeats 400000 in
theorem mM_began {G : zG} (ad : Nat → Nat) (iv : Nat → Int32) (sv : zV) (w : Nat) (bd : Int32) (hs40 : sv.2 ≤ 40) : zMet G yX10_began (ws_ yX10_began cX10_began 2 none) (zRm 0 0 0 0) [.ref (ad 99), .int bd] [zO (ad 99) 10 (mFs ad (upd (upd iv 24 (nI w)) 23 (nI sv.2))), zI (G.2.2.1 0) (ad 22) 40 sv.1] (fun v9 b9 => v9 = none ∧ b9 = [zO (ad 99) 10 (mFs ad (upd (upd iv 24 (nI w)) 23 (nI ((bgF bd sv).2)))), zI (G.2.2.1 0) (ad 22) 40 ((bgF bd sv).1)]) := by
  refine zMet.of (by decide +kernel) (Nat.le_of_ble_eq_true rfl) ?_
  intro p e s m args below meth c A hz hA hr hlk hnm9 Q hQ
  refine z_lv (lv' := [(0, .ref (ad 99)), (1, .int bd)]) [0, 1] rfl ?_
  refine z_aload_n hz dX10_began_0 0 rfl rfl ?_
  refine z_get (C := RX10) (T := TX10) (N := 29) hz in_X10 (zAt.mt 0 0 rfl rfl) rfl 23 (by decide) q1952 (fun _ h9 => h9) rfl dX10_began_1 ?_
  refine z_bipush hz 40 dX10_began_4 kb_40 ?_
  refine z_icmpN_ge hz rfl kn_40 (by omega) (by decide) 29 dX10_began_6 (by decide) (fun c1 => ?_) (fun c1 => ?_)
  · exact z_vret hQ hz hr hlk dX10_began_29 ⟨rfl, (by rw [show bgF bd sv = sv from if_neg c1])⟩
  · refine z_aload_n hz dX10_began_9 0 rfl rfl ?_
    refine z_get (C := RX10) (T := TX10) (N := 29) hz in_X10 (zAt.mt 0 0 rfl rfl) rfl 22 (by decide) q1951 (fun _ h9 => h9) rfl dX10_began_10 ?_
    refine z_aload_n hz dX10_began_13 0 rfl rfl ?_
    refine z_get (C := RX10) (T := TX10) (N := 29) hz in_X10 (zAt.mt 0 0 rfl rfl) rfl 23 (by decide) q1952 (fun _ h9 => h9) rfl dX10_began_14 ?_
    refine z_iload_n hz dX10_began_17 1 rfl rfl ?_
    refine z_iast hz 1 0 rfl rfl rfl (by omega) (by decide) dX10_began_18 ?_
    refine z_bs (bs2 := [zO (ad 99) 10 (mFs ad (upd (upd iv 24 (nI w)) 23 (nI sv.2))), zI (G.2.2.1 0) (ad 22) 40 (upd sv.1 sv.2 bd)]) rfl ?_
    refine z_aload_n hz dX10_began_19 0 rfl rfl ?_
    refine z_dup hz dX10_began_20 rfl ?_
    refine z_get (C := RX10) (T := TX10) (N := 29) hz in_X10 (zAt.mt 0 0 rfl rfl) rfl 23 (by decide) q1952 (fun _ h9 => h9) rfl dX10_began_21 ?_
    refine z_iconst hz 1 dX10_began_24 ki_1 ?_
    refine z_iaddN hz rfl kn_1 dX10_began_25 ?_
    refine z_put (C := RX10) (T := TX10) (N := 29) hz in_X10 tyX10 tyX10_ok nmX10 0 0 rfl rfl rfl 23 (by decide) q1952 (fun _ h9 => h9) rfl rfl rfl (Nat.le_of_ble_eq_true rfl) dX10_began_26 ?_
    refine z_bs (bs2 := [zO (ad 99) 10 (mFs ad (upd (upd iv 24 (nI w)) 23 (nI (sv.2 + 1)))), zI (G.2.2.1 0) (ad 22) 40 (upd sv.1 sv.2 bd)]) rfl ?_
    exact z_vret hQ hz hr hlk dX10_began_29 ⟨rfl, (by rw [show bgF bd sv = (upd sv.1 sv.2 bd, sv.2 + 1) from if_pos c1])⟩
set_option maxHeartbeats 400000 in
theorem mM_hasOwn {G : zG} (k a : Nat) (hk : k < 8) (ha : a < 4) : zRd G yX10_hasOwn (ws_ yX10_hasOwn cX10_hasOwn 2 (some .boolean)) (zRm 0 0 0 0) [.int (nI k), .int (nI a)] [] (fun v9 => v9 = some (.int (zB (ownP k a)))) := by
  refine zRd.of (by decide +kernel) (Nat.le_of_ble_eq_true rfl) ?_
  intro p e s m args below meth c hz hP hr hlk Q hQ
  refine z_lv (lv' := [(0, .int (nI k)), (1, .int (nI a))]) [0, 1] rfl ?_
  refine z_iload_n hz dX10_hasOwn_0 0 rfl rfl ?_
  by_cases c1 : k = 0
  · refine z_tabIn hz 47 48 dX10_hasOwn_1 (by rw [c1]; decide) (by rw [c1]; decide) (by rw [c1]; decide) (by decide) ?_
    refine z_iconst hz 1 dX10_hasOwn_48 ki_1 ?_
    exact zr_zret hQ hz hr hlk (by decide) dX10_hasOwn_49 (by first | (simp [zB, ownP, c1]; done) | (exfalso; omega))
  ·
    skip
    by_cases c2 : k = 1
    · refine z_tabIn hz 49 50 dX10_hasOwn_1 (by rw [c2]; decide) (by rw [c2]; decide) (by rw [c2]; decide) (by decide) ?_
      refine z_iload_n hz dX10_hasOwn_50 1 rfl rfl ?_
      refine z_iconst hz 1 dX10_hasOwn_51 ki_1 ?_
      refine z_icmpN_ne hz rfl kn_1 (by omega) (by decide) 59 dX10_hasOwn_52 (by decide) (fun c3 => ?_) (fun c3 => ?_)
      · refine z_iconst hz 0 dX10_hasOwn_59 ki_0 ?_
        exact zr_zret hQ hz hr hlk (by decide) dX10_hasOwn_60 (by first | (simp [zB, ownP, c1, c2, c3]; done) | (exfalso; omega))
      · refine z_iconst hz 1 dX10_hasOwn_55 ki_1 ?_
        refine z_goto hz 60 dX10_hasOwn_56 (by decide) ?_
        exact zr_zret hQ hz hr hlk (by decide) dX10_hasOwn_60 (by first | (simp [zB, ownP, c1, c2, c3]; done) | (exfalso; omega))
    ·
      skip
      by_cases c4 : k = 2
      · refine z_tabIn hz 60 61 dX10_hasOwn_1 (by rw [c4]; decide) (by rw [c4]; decide) (by rw [c4]; decide) (by decide) ?_
        refine z_iload_n hz dX10_hasOwn_61 1 rfl rfl ?_
        refine z_iconst hz 2 dX10_hasOwn_62 ki_2 ?_
        refine z_icmpN_ne hz rfl kn_2 (by omega) (by decide) 70 dX10_hasOwn_63 (by decide) (fun c5 => ?_) (fun c5 => ?_)
        · refine z_iconst hz 0 dX10_hasOwn_70 ki_0 ?_
          exact zr_zret hQ hz hr hlk (by decide) dX10_hasOwn_71 (by first | (simp [zB, ownP, c1, c2, c4, c5]; done) | (exfalso; omega))
        · refine z_iconst hz 1 dX10_hasOwn_66 ki_1 ?_
          refine z_goto hz 71 dX10_hasOwn_67 (by decide) ?_
          exact zr_zret hQ hz hr hlk (by decide) dX10_hasOwn_71 (by first | (simp [zB, ownP, c1, c2, c4, c5]; done) | (exfalso; omega))
      ·
        skip
        by_cases c6 : k = 3
        · refine z_tabIn hz 71 72 dX10_hasOwn_1 (by rw [c6]; decide) (by rw [c6]; decide) (by rw [c6]; decide) (by decide) ?_
          refine z_iload_n hz dX10_hasOwn_72 1 rfl rfl ?_
          refine z_iconst hz 2 dX10_hasOwn_73 ki_2 ?_
          refine z_icmpN_ge hz rfl kn_2 (by omega) (by decide) 81 dX10_hasOwn_74 (by decide) (fun c7 => ?_) (fun c7 => ?_)
          · refine z_iconst hz 0 dX10_hasOwn_81 ki_0 ?_
            exact zr_zret hQ hz hr hlk (by decide) dX10_hasOwn_82 (by first | (simp [zB, ownP, c1, c2, c4, c6, c7]; done) | (exfalso; omega))
          · refine z_iconst hz 1 dX10_hasOwn_77 ki_1 ?_
            refine z_goto hz 82 dX10_hasOwn_78 (by decide) ?_
            exact zr_zret hQ hz hr hlk (by decide) dX10_hasOwn_82 (by first | (simp [zB, ownP, c1, c2, c4, c6, c7]; done) | (exfalso; omega))
        ·
          skip
          by_cases c8 : k = 4
          · refine z_tabIn hz 97 98 dX10_hasOwn_1 (by rw [c8]; decide) (by rw [c8]; decide) (by rw [c8]; decide) (by decide) ?_
            refine z_iload_n hz dX10_hasOwn_98 1 rfl rfl ?_
            refine z_iconst hz 3 dX10_hasOwn_99 ki_3 ?_
            refine z_icmpN_ne hz rfl kn_3 (by omega) (by decide) 107 dX10_hasOwn_100 (by decide) (fun c9 => ?_) (fun c9 => ?_)
            · refine z_iconst hz 0 dX10_hasOwn_107 ki_0 ?_
              exact zr_zret hQ hz hr hlk (by decide) dX10_hasOwn_108 (by first | (simp [zB, ownP, c1, c2, c4, c6, c8, c9]; done) | (exfalso; omega))
            · refine z_iconst hz 1 dX10_hasOwn_103 ki_1 ?_
              refine z_goto hz 108 dX10_hasOwn_104 (by decide) ?_
              exact zr_zret hQ hz hr hlk (by decide) dX10_hasOwn_108 (by first | (simp [zB, ownP, c1, c2, c4, c6, c8, c9]; done) | (exfalso; omega))
          ·
            skip
            by_cases c10 : k = 5
            · refine z_tabIn hz 82 83 dX10_hasOwn_1 (by rw [c10]; decide) (by rw [c10]; decide) (by rw [c10]; decide) (by decide) ?_
              refine z_iload_n hz dX10_hasOwn_83 1 rfl rfl ?_
              refine z_ifN_eq hz rfl (by omega) 92 dX10_hasOwn_84 (by decide) (fun c11 => ?_) (fun c11 => ?_)
              · refine z_iconst hz 1 dX10_hasOwn_92 ki_1 ?_
                refine z_goto hz 97 dX10_hasOwn_93 (by decide) ?_
                exact zr_zret hQ hz hr hlk (by decide) dX10_hasOwn_97 (by first | (simp [zB, ownP, c1, c2, c4, c6, c8, c10, c11]; done) | (exfalso; omega))
              · refine z_iload_n hz dX10_hasOwn_87 1 rfl rfl ?_
                refine z_iconst hz 2 dX10_hasOwn_88 ki_2 ?_
                refine z_icmpN_ne hz rfl kn_2 (by omega) (by decide) 96 dX10_hasOwn_89 (by decide) (fun c12 => ?_) (fun c12 => ?_)
                · refine z_iconst hz 0 dX10_hasOwn_96 ki_0 ?_
                  exact zr_zret hQ hz hr hlk (by decide) dX10_hasOwn_97 (by first | (simp [zB, ownP, c1, c2, c4, c6, c8, c10, c11, c12]; done) | (exfalso; omega))
                · refine z_iconst hz 1 dX10_hasOwn_92 ki_1 ?_
                  refine z_goto hz 97 dX10_hasOwn_93 (by decide) ?_
                  exact zr_zret hQ hz hr hlk (by decide) dX10_hasOwn_97 (by first | (simp [zB, ownP, c1, c2, c4, c6, c8, c10, c11, c12]; done) | (exfalso; omega))
            ·
              skip
              by_cases c13 : k = 6
              · refine z_tabIn hz 97 98 dX10_hasOwn_1 (by rw [c13]; decide) (by rw [c13]; decide) (by rw [c13]; decide) (by decide) ?_
                refine z_iload_n hz dX10_hasOwn_98 1 rfl rfl ?_
                refine z_iconst hz 3 dX10_hasOwn_99 ki_3 ?_
                refine z_icmpN_ne hz rfl kn_3 (by omega) (by decide) 107 dX10_hasOwn_100 (by decide) (fun c14 => ?_) (fun c14 => ?_)
                · refine z_iconst hz 0 dX10_hasOwn_107 ki_0 ?_
                  exact zr_zret hQ hz hr hlk (by decide) dX10_hasOwn_108 (by first | (simp [zB, ownP, c1, c2, c4, c6, c8, c10, c13, c14]; done) | (exfalso; omega))
                · refine z_iconst hz 1 dX10_hasOwn_103 ki_1 ?_
                  refine z_goto hz 108 dX10_hasOwn_104 (by decide) ?_
                  exact zr_zret hQ hz hr hlk (by decide) dX10_hasOwn_108 (by first | (simp [zB, ownP, c1, c2, c4, c6, c8, c10, c13, c14]; done) | (exfalso; omega))
              ·
                skip
                by_cases c15 : k = 7
                · refine z_tabIn hz 60 61 dX10_hasOwn_1 (by rw [c15]; decide) (by rw [c15]; decide) (by rw [c15]; decide) (by decide) ?_
                  refine z_iload_n hz dX10_hasOwn_61 1 rfl rfl ?_
                  refine z_iconst hz 2 dX10_hasOwn_62 ki_2 ?_
                  refine z_icmpN_ne hz rfl kn_2 (by omega) (by decide) 70 dX10_hasOwn_63 (by decide) (fun c16 => ?_) (fun c16 => ?_)
                  · refine z_iconst hz 0 dX10_hasOwn_70 ki_0 ?_
                    exact zr_zret hQ hz hr hlk (by decide) dX10_hasOwn_71 (by first | (simp [zB, ownP, c1, c2, c4, c6, c8, c10, c13, c15, c16]; done) | (exfalso; omega))
                  · refine z_iconst hz 1 dX10_hasOwn_66 ki_1 ?_
                    refine z_goto hz 71 dX10_hasOwn_67 (by decide) ?_
                    exact zr_zret hQ hz hr hlk (by decide) dX10_hasOwn_71 (by first | (simp [zB, ownP, c1, c2, c4, c6, c8, c10, c13, c15, c16]; done) | (exfalso; omega))
                ·
                  skip
                  refine z_tabOut hz 98 dX10_hasOwn_1 (by rw [nI_toInt (by omega)]; omega) (by decide) ?_
                  refine z_iload_n hz dX10_hasOwn_98 1 rfl rfl ?_
                  refine z_iconst hz 3 dX10_hasOwn_99 ki_3 ?_
                  refine z_icmpN_ne hz rfl kn_3 (by omega) (by decide) 107 dX10_hasOwn_100 (by decide) (fun c17 => ?_) (fun c17 => ?_)
                  · refine z_iconst hz 0 dX10_hasOwn_107 ki_0 ?_
                    exact zr_zret hQ hz hr hlk (by decide) dX10_hasOwn_108 (by first | (simp [zB, ownP, c1, c2, c4, c6, c8, c10, c13, c15, c17]; done) | (exfalso; omega))
                  · refine z_iconst hz 1 dX10_hasOwn_103 ki_1 ?_
                    refine z_goto hz 108 dX10_hasOwn_104 (by decide) ?_
                    exact zr_zret hQ hz hr hlk (by decide) dX10_hasOwn_108 (by first | (simp [zB, ownP, c1, c2, c4, c6, c8, c10, c13, c15, c17]; done) | (exfalso; omega))
set_option maxHeartbeats 400000 in
theorem mM_b00 {G : zG} (ad : Nat → Nat) (iv g : Nat → Int32) (sv : zV) (w K : Nat) (hw : w < 12) (hK8 : K < 8) (hK : g (152 + 4 * w) = nI K) (hs40 : sv.2 ≤ 40) (x : Int32) : zMet G yX10_body (ws_ yX10_body cX10_body 5 (some .int)) (zRm 2 0 0 60) [.ref (ad 99), .int 0, .int 0, .int x] [zO (ad 99) 10 (mFs ad (upd (upd iv 24 (nI w)) 23 (nI sv.2))), zI (G.2.2.1 0) (ad 0) 602 g, zI (G.2.2.1 0) (ad 22) 40 sv.1] (fun v9 b9 => v9 = some (.int (b00 (nI w) x sv).1) ∧ b9 = [zO (ad 99) 10 (mFs ad (upd (upd iv 24 (nI w)) 23 (nI ((b00 (nI w) x sv).2.2)))), zI (G.2.2.1 0) (ad 0) 602 g, zI (G.2.2.1 0) (ad 22) 40 ((b00 (nI w) x sv).2.1)]) := by
  refine zMet.of (by decide +kernel) (Nat.le_of_ble_eq_true rfl) ?_
  intro p e s m args below meth c A hz hA hr hlk hnm9 Q hQ
  refine z_lv (lv' := [(0, .ref (ad 99)), (1, .int 0), (2, .int 0), (3, .int x)]) [0, 1, 2, 3] rfl ?_
  refine z_iconst hz 4 dX10_body_0 ki_4 ?_
  refine z_iload_n hz dX10_body_1 1 rfl rfl ?_
  refine z_imul hz dX10_body_2 ?_
  refine z_top (y := 0) (by decide) ?_
  refine z_iload_n hz dX10_body_3 2 rfl rfl ?_
  refine z_iadd hz dX10_body_4 ?_
  refine z_top (y := 0) (by decide) ?_
  refine z_tabIn hz 127 132 dX10_body_5 (by decide) (by decide) (by decide) (by decide) ?_
  refine z_aload_n hz dX10_body_132 0 rfl rfl ?_
  refine z_bipush hz 10 dX10_body_133 kb_10 ?_
  refine z_callD (bs2 := [zO (ad 99) 10 (mFs ad (upd (upd iv 24 (nI w)) 23 (nI ((bgF 10 sv).2)))), zI (G.2.2.1 0) (ad 0) 602 g, zI (G.2.2.1 0) (ad 22) 40 ((bgF 10 sv).1)]) (st2 := []) hz hA (zk_V hz (rm := (zRm 0 0 0 0)) (As := [.int 10]) (rest := []) 1 q2444 q2446 qs77 q95 q2447 (by decide +kernel) ⟨Nat.le_of_ble_eq_true rfl, Nat.le_of_ble_eq_true rfl⟩ ⟨Nat.le_of_ble_eq_true rfl, Nat.le_of_ble_eq_true rfl⟩ (zRecv (q := (RX10, TX10, 29)) hz (zAt.mt 0 0 rfl rfl) rfl) rfl rfl (Nat.le_of_ble_eq_true rfl) dX10_body_135) (mM_began ad iv sv w 10 hs40) [0, 2] rfl (by decide) rfl rfl ?_
  refine z_iload_n hz dX10_body_138 3 rfl rfl ?_
  refine z_aload_n hz dX10_body_139 0 rfl rfl ?_
  refine z_get (C := RX10) (T := TX10) (N := 29) hz in_X10 (zAt.mt 0 0 rfl rfl) rfl 24 (by decide) q1953 (fun _ h9 => h9) rfl dX10_body_140 ?_
  refine z_iadd hz dX10_body_143 ?_
  exact z_iret hQ hz hr hlk dX10_body_144 ⟨rfl, rfl⟩
set_option maxHeartbeats 400000 in
theorem mM_f00 {G : zG} (ad : Nat → Nat) (iv g : Nat → Int32) (sv : zV) (w K : Nat) (hw : w < 12) (hK8 : K < 8) (hK : g (152 + 4 * w) = nI K) (hs40 : sv.2 ≤ 40) (x : Int32) : zMet G yX10_bodyFrom (ws_ yX10_bodyFrom cX10_bodyFrom 5 (some .int)) (zRm 3 0 0 90) [.ref (ad 99), .int 0, .int 0, .int x] [zO (ad 99) 10 (mFs ad (upd (upd iv 24 (nI w)) 23 (nI sv.2))), zI (G.2.2.1 0) (ad 0) 602 g, zI (G.2.2.1 0) (ad 22) 40 sv.1] (fun v9 b9 => v9 = some (.int (b00 (nI w) x sv).1) ∧ b9 = [zO (ad 99) 10 (mFs ad (upd (upd iv 24 (nI w)) 23 (nI ((b00 (nI w) x sv).2.2)))), zI (G.2.2.1 0) (ad 0) 602 g, zI (G.2.2.1 0) (ad 22) 40 ((b00 (nI w) x sv).2.1)]) := by
  refine zMet.of (by decide +kernel) (Nat.le_of_ble_eq_true rfl) ?_
  intro p e s m args below meth c A hz hA hr hlk hnm9 Q hQ
  refine z_lv (lv' := [(0, .ref (ad 99)), (1, .int 0), (2, .int 0), (3, .int x)]) [0, 1, 2, 3] rfl ?_
  refine z_iload_n hz dX10_bodyFrom_0 1 rfl rfl ?_
  refine z_istore (lv' := [(0, .ref (ad 99)), (1, .int 0), (2, .int 0), (3, .int x), (4, .int 0)]) hz [1, 2, 3, 4, 0] dX10_bodyFrom_1 (by decide) rfl ?_
  refine z_iload hz dX10_bodyFrom_3 4 rfl ?_
  refine z_iload_n hz dX10_bodyFrom_5 2 rfl rfl ?_
  refine z_callRD (st2 := [.int (zB (ownP 0 0))]) hz zKp.mt (zk_S hz (rm := (zRm 0 0 0 0)) (As := [.int 0, .int 0]) (rest := []) 2 q2437 q2438 q95 q2439 (by decide +kernel) ⟨Nat.le_of_ble_eq_true rfl, Nat.le_of_ble_eq_true rfl⟩ ⟨Nat.le_of_ble_eq_true rfl, Nat.le_of_ble_eq_true rfl⟩ rfl rfl (Nat.le_of_ble_eq_true rfl) dX10_bodyFrom_6) (mM_hasOwn 0 0 (by decide) (by decide)) (fun _ _ _ => zP0) rfl ?_
  refine z_ifB_neT hz 22 dX10_bodyFrom_9 (by decide) (by decide) ?_
  refine z_aload_n hz dX10_bodyFrom_22 0 rfl rfl ?_
  refine z_iload hz dX10_bodyFrom_23 4 rfl ?_
  refine z_iload_n hz dX10_bodyFrom_25 2 rfl rfl ?_
  refine z_iload_n hz dX10_bodyFrom_26 3 rfl rfl ?_
  refine z_callD (bs2 := [zO (ad 99) 10 (mFs ad (upd (upd iv 24 (nI w)) 23 (nI ((b00 (nI w) x sv).2.2)))), zI (G.2.2.1 0) (ad 0) 602 g, zI (G.2.2.1 0) (ad 22) 40 ((b00 (nI w) x sv).2.1)]) (st2 := [.int ((b00 (nI w) x sv).1)]) hz hA (zk_V hz (rm := (zRm 2 0 0 60)) (As := [.int 0, .int 0, .int x]) (rest := []) 3 q2440 q2442 qs76 q95 q2443 (by decide +kernel) ⟨Nat.le_of_ble_eq_true rfl, Nat.le_of_ble_eq_true rfl⟩ ⟨Nat.le_of_ble_eq_true rfl, Nat.le_of_ble_eq_true rfl⟩ (zRecv (q := (RX10, TX10, 29)) hz (zAt.mt 0 0 rfl rfl) rfl) rfl rfl (Nat.le_of_ble_eq_true rfl) dX10_bodyFrom_27) (mM_b00 ad iv g sv w K hw hK8 hK hs40 x) [0, 1, 2] rfl (by decide) rfl rfl ?_
  exact z_iret hQ hz hr hlk dX10_bodyFrom_30 ⟨rfl, rfl⟩
set_option maxHeartbeats 400000 in
theorem mM_f10 {G : zG} (ad : Nat → Nat) (iv g : Nat → Int32) (sv : zV) (w K : Nat) (hw : w < 12) (hK8 : K < 8) (hK : g (152 + 4 * w) = nI K) (hs40 : sv.2 ≤ 40) (x : Int32) : zMet G yX10_bodyFrom (ws_ yX10_bodyFrom cX10_bodyFrom 5 (some .int)) (zRm 3 0 0 90) [.ref (ad 99), .int 1, .int 0, .int x] [zO (ad 99) 10 (mFs ad (upd (upd iv 24 (nI w)) 23 (nI sv.2))), zI (G.2.2.1 0) (ad 0) 602 g, zI (G.2.2.1 0) (ad 22) 40 sv.1] (fun v9 b9 => v9 = some (.int (b00 (nI w) x sv).1) ∧ b9 = [zO (ad 99) 10 (mFs ad (upd (upd iv 24 (nI w)) 23 (nI ((b00 (nI w) x sv).2.2)))), zI (G.2.2.1 0) (ad 0) 602 g, zI (G.2.2.1 0) (ad 22) 40 ((b00 (nI w) x sv).2.1)]) := by
  refine zMet.of (by decide +kernel) (Nat.le_of_ble_eq_true rfl) ?_
  intro p e s m args below meth c A hz hA hr hlk hnm9 Q hQ
  refine z_lv (lv' := [(0, .ref (ad 99)), (1, .int 1), (2, .int 0), (3, .int x)]) [0, 1, 2, 3] rfl ?_
  refine z_iload_n hz dX10_bodyFrom_0 1 rfl rfl ?_
  refine z_istore (lv' := [(0, .ref (ad 99)), (1, .int 1), (2, .int 0), (3, .int x), (4, .int 1)]) hz [1, 2, 3, 4, 0] dX10_bodyFrom_1 (by decide) rfl ?_
  refine z_iload hz dX10_bodyFrom_3 4 rfl ?_
  refine z_iload_n hz dX10_bodyFrom_5 2 rfl rfl ?_
  refine z_callRD (st2 := [.int (zB (ownP 1 0))]) hz zKp.mt (zk_S hz (rm := (zRm 0 0 0 0)) (As := [.int 1, .int 0]) (rest := []) 2 q2437 q2438 q95 q2439 (by decide +kernel) ⟨Nat.le_of_ble_eq_true rfl, Nat.le_of_ble_eq_true rfl⟩ ⟨Nat.le_of_ble_eq_true rfl, Nat.le_of_ble_eq_true rfl⟩ rfl rfl (Nat.le_of_ble_eq_true rfl) dX10_bodyFrom_6) (mM_hasOwn 1 0 (by decide) (by decide)) (fun _ _ _ => zP0) rfl ?_
  refine z_ifB_neF hz 22 dX10_bodyFrom_9 (by decide) (by decide) ?_
  refine z_iload hz dX10_bodyFrom_12 4 rfl ?_
  refine z_callRD (st2 := [.int 0]) hz zKp.mt (zk_S hz (rm := (zRm 0 0 0 0)) (As := [.int 1]) (rest := []) 1 q2229 q2230 q95 q2231 (by decide +kernel) ⟨Nat.le_of_ble_eq_true rfl, Nat.le_of_ble_eq_true rfl⟩ ⟨Nat.le_of_ble_eq_true rfl, Nat.le_of_ble_eq_true rfl⟩ rfl rfl (Nat.le_of_ble_eq_true rfl) dX10_bodyFrom_14) (mM_above 1 (by decide)) (fun _ _ _ => zP0) rfl ?_
  refine z_istore (lv' := [(0, .ref (ad 99)), (1, .int 1), (2, .int 0), (3, .int x), (4, .int 0)]) hz [1, 2, 3, 4, 0] dX10_bodyFrom_17 (by decide) rfl ?_
  refine z_goto hz 3 dX10_bodyFrom_19 (by decide) ?_
  refine z_iload hz dX10_bodyFrom_3 4 rfl ?_
  refine z_iload_n hz dX10_bodyFrom_5 2 rfl rfl ?_
  refine z_callRD (st2 := [.int (zB (ownP 0 0))]) hz zKp.mt (zk_S hz (rm := (zRm 0 0 0 0)) (As := [.int 0, .int 0]) (rest := []) 2 q2437 q2438 q95 q2439 (by decide +kernel) ⟨Nat.le_of_ble_eq_true rfl, Nat.le_of_ble_eq_true rfl⟩ ⟨Nat.le_of_ble_eq_true rfl, Nat.le_of_ble_eq_true rfl⟩ rfl rfl (Nat.le_of_ble_eq_true rfl) dX10_bodyFrom_6) (mM_hasOwn 0 0 (by decide) (by decide)) (fun _ _ _ => zP0) rfl ?_
  refine z_ifB_neT hz 22 dX10_bodyFrom_9 (by decide) (by decide) ?_
  refine z_aload_n hz dX10_bodyFrom_22 0 rfl rfl ?_
  refine z_iload hz dX10_bodyFrom_23 4 rfl ?_
  refine z_iload_n hz dX10_bodyFrom_25 2 rfl rfl ?_
  refine z_iload_n hz dX10_bodyFrom_26 3 rfl rfl ?_
  refine z_callD (bs2 := [zO (ad 99) 10 (mFs ad (upd (upd iv 24 (nI w)) 23 (nI ((b00 (nI w) x sv).2.2)))), zI (G.2.2.1 0) (ad 0) 602 g, zI (G.2.2.1 0) (ad 22) 40 ((b00 (nI w) x sv).2.1)]) (st2 := [.int ((b00 (nI w) x sv).1)]) hz hA (zk_V hz (rm := (zRm 2 0 0 60)) (As := [.int 0, .int 0, .int x]) (rest := []) 3 q2440 q2442 qs76 q95 q2443 (by decide +kernel) ⟨Nat.le_of_ble_eq_true rfl, Nat.le_of_ble_eq_true rfl⟩ ⟨Nat.le_of_ble_eq_true rfl, Nat.le_of_ble_eq_true rfl⟩ (zRecv (q := (RX10, TX10, 29)) hz (zAt.mt 0 0 rfl rfl) rfl) rfl rfl (Nat.le_of_ble_eq_true rfl) dX10_bodyFrom_27) (mM_b00 ad iv g sv w K hw hK8 hK hs40 x) [0, 1, 2] rfl (by decide) rfl rfl ?_
  exact z_iret hQ hz hr hlk dX10_bodyFrom_30 ⟨rfl, rfl⟩
set_option maxHeartbeats 400000 in
theorem mM_b30 {G : zG} (ad : Nat → Nat) (iv g : Nat → Int32) (sv : zV) (w K : Nat) (hw : w < 12) (hK8 : K < 8) (hK : g (152 + 4 * w) = nI K) (hs40 : sv.2 ≤ 40) (x : Int32) : zMet G yX10_body (ws_ yX10_body cX10_body 5 (some .int)) (zRm 4 0 0 120) [.ref (ad 99), .int 3, .int 0, .int x] [zO (ad 99) 10 (mFs ad (upd (upd iv 24 (nI w)) 23 (nI sv.2))), zI (G.2.2.1 0) (ad 0) 602 g, zI (G.2.2.1 0) (ad 22) 40 sv.1] (fun v9 b9 => v9 = some (.int (b30 (nI w) x sv).1) ∧ b9 = [zO (ad 99) 10 (mFs ad (upd (upd iv 24 (nI w)) 23 (nI ((b30 (nI w) x sv).2.2)))), zI (G.2.2.1 0) (ad 0) 602 g, zI (G.2.2.1 0) (ad 22) 40 ((b30 (nI w) x sv).2.1)]) := by
  refine zMet.of (by decide +kernel) (Nat.le_of_ble_eq_true rfl) ?_
  intro p e s m args below meth c A hz hA hr hlk hnm9 Q hQ
  refine z_lv (lv' := [(0, .ref (ad 99)), (1, .int 3), (2, .int 0), (3, .int x)]) [0, 1, 2, 3] rfl ?_
  refine z_iconst hz 4 dX10_body_0 ki_4 ?_
  refine z_iload_n hz dX10_body_1 1 rfl rfl ?_
  refine z_imul hz dX10_body_2 ?_
  refine z_top (y := 12) (by decide) ?_
  refine z_iload_n hz dX10_body_3 2 rfl rfl ?_
  refine z_iadd hz dX10_body_4 ?_
  refine z_top (y := 12) (by decide) ?_
  refine z_tabIn hz 238 243 dX10_body_5 (by decide) (by decide) (by decide) (by decide) ?_
  refine z_aload_n hz dX10_body_243 0 rfl rfl ?_
  refine z_bipush hz 40 dX10_body_244 kb_40 ?_
  refine z_callD (bs2 := [zO (ad 99) 10 (mFs ad (upd (upd iv 24 (nI w)) 23 (nI ((bgF 40 sv).2)))), zI (G.2.2.1 0) (ad 0) 602 g, zI (G.2.2.1 0) (ad 22) 40 ((bgF 40 sv).1)]) (st2 := []) hz hA (zk_V hz (rm := (zRm 0 0 0 0)) (As := [.int 40]) (rest := []) 1 q2444 q2446 qs77 q95 q2447 (by decide +kernel) ⟨Nat.le_of_ble_eq_true rfl, Nat.le_of_ble_eq_true rfl⟩ ⟨Nat.le_of_ble_eq_true rfl, Nat.le_of_ble_eq_true rfl⟩ (zRecv (q := (RX10, TX10, 29)) hz (zAt.mt 0 0 rfl rfl) rfl) rfl rfl (Nat.le_of_ble_eq_true rfl) dX10_body_246) (mM_began ad iv sv w 40 hs40) [0, 2] rfl (by decide) rfl rfl ?_
  refine z_aload_n hz dX10_body_249 0 rfl rfl ?_
  refine z_iconst hz 1 dX10_body_250 ki_1 ?_
  refine z_iconst hz 0 dX10_body_251 ki_0 ?_
  refine z_iload_n hz dX10_body_252 3 rfl rfl ?_
  refine z_callD (bs2 := [zO (ad 99) 10 (mFs ad (upd (upd iv 24 (nI w)) 23 (nI ((b00 (nI w) x (bgF 40 sv)).2.2)))), zI (G.2.2.1 0) (ad 0) 602 g, zI (G.2.2.1 0) (ad 22) 40 ((b00 (nI w) x (bgF 40 sv)).2.1)]) (st2 := [.int ((b00 (nI w) x (bgF 40 sv)).1)]) hz hA (zk_V hz (rm := (zRm 3 0 0 90)) (As := [.int 1, .int 0, .int x]) (rest := []) 3 q2433 q2435 qs75 q95 q2436 (by decide +kernel) ⟨Nat.le_of_ble_eq_true rfl, Nat.le_of_ble_eq_true rfl⟩ ⟨Nat.le_of_ble_eq_true rfl, Nat.le_of_ble_eq_true rfl⟩ (zRecv (q := (RX10, TX10, 29)) hz (zAt.mt 0 0 rfl rfl) rfl) rfl rfl (Nat.le_of_ble_eq_true rfl) dX10_body_253) (mM_f10 ad iv g (bgF 40 sv) w K hw hK8 hK (bgF_le hs40) x) [0, 1, 2] rfl (by decide) rfl rfl ?_
  refine z_iconst hz 1 dX10_body_256 ki_1 ?_
  refine z_isub hz dX10_body_257 ?_
  exact z_iret hQ hz hr hlk dX10_body_258 ⟨rfl, rfl⟩
set_option maxHeartbeats 400000 in
theorem mM_b50 {G : zG} (ad : Nat → Nat) (iv g : Nat → Int32) (sv : zV) (w K : Nat) (hw : w < 12) (hK8 : K < 8) (hK : g (152 + 4 * w) = nI K) (hs40 : sv.2 ≤ 40) (x : Int32) : zMet G yX10_body (ws_ yX10_body cX10_body 5 (some .int)) (zRm 4 0 0 120) [.ref (ad 99), .int 5, .int 0, .int x] [zO (ad 99) 10 (mFs ad (upd (upd iv 24 (nI w)) 23 (nI sv.2))), zI (G.2.2.1 0) (ad 0) 602 g, zI (G.2.2.1 0) (ad 22) 40 sv.1] (fun v9 b9 => v9 = some (.int (b50 (nI w) x sv).1) ∧ b9 = [zO (ad 99) 10 (mFs ad (upd (upd iv 24 (nI w)) 23 (nI ((b50 (nI w) x sv).2.2)))), zI (G.2.2.1 0) (ad 0) 602 g, zI (G.2.2.1 0) (ad 22) 40 ((b50 (nI w) x sv).2.1)]) := by
  refine zMet.of (by decide +kernel) (Nat.le_of_ble_eq_true rfl) ?_
  intro p e s m args below meth c A hz hA hr hlk hnm9 Q hQ
  refine z_lv (lv' := [(0, .ref (ad 99)), (1, .int 5), (2, .int 0), (3, .int x)]) [0, 1, 2, 3] rfl ?_
  refine z_iconst hz 4 dX10_body_0 ki_4 ?_
  refine z_iload_n hz dX10_body_1 1 rfl rfl ?_
  refine z_imul hz dX10_body_2 ?_
  refine z_top (y := 20) (by decide) ?_
  refine z_iload_n hz dX10_body_3 2 rfl rfl ?_
  refine z_iadd hz dX10_body_4 ?_
  refine z_top (y := 20) (by decide) ?_
  refine z_tabIn hz 295 300 dX10_body_5 (by decide) (by decide) (by decide) (by decide) ?_
  refine z_aload_n hz dX10_body_300 0 rfl rfl ?_
  refine z_bipush hz 60 dX10_body_301 kb_60 ?_
  refine z_callD (bs2 := [zO (ad 99) 10 (mFs ad (upd (upd iv 24 (nI w)) 23 (nI ((bgF 60 sv).2)))), zI (G.2.2.1 0) (ad 0) 602 g, zI (G.2.2.1 0) (ad 22) 40 ((bgF 60 sv).1)]) (st2 := []) hz hA (zk_V hz (rm := (zRm 0 0 0 0)) (As := [.int 60]) (rest := []) 1 q2444 q2446 qs77 q95 q2447 (by decide +kernel) ⟨Nat.le_of_ble_eq_true rfl, Nat.le_of_ble_eq_true rfl⟩ ⟨Nat.le_of_ble_eq_true rfl, Nat.le_of_ble_eq_true rfl⟩ (zRecv (q := (RX10, TX10, 29)) hz (zAt.mt 0 0 rfl rfl) rfl) rfl rfl (Nat.le_of_ble_eq_true rfl) dX10_body_303) (mM_began ad iv sv w 60 hs40) [0, 2] rfl (by decide) rfl rfl ?_
  refine z_aload_n hz dX10_body_306 0 rfl rfl ?_
  refine z_iconst hz 0 dX10_body_307 ki_0 ?_
  refine z_iconst hz 0 dX10_body_308 ki_0 ?_
  refine z_iload_n hz dX10_body_309 3 rfl rfl ?_
  refine z_callD (bs2 := [zO (ad 99) 10 (mFs ad (upd (upd iv 24 (nI w)) 23 (nI ((b00 (nI w) x (bgF 60 sv)).2.2)))), zI (G.2.2.1 0) (ad 0) 602 g, zI (G.2.2.1 0) (ad 22) 40 ((b00 (nI w) x (bgF 60 sv)).2.1)]) (st2 := [.int ((b00 (nI w) x (bgF 60 sv)).1)]) hz hA (zk_V hz (rm := (zRm 3 0 0 90)) (As := [.int 0, .int 0, .int x]) (rest := []) 3 q2433 q2435 qs75 q95 q2436 (by decide +kernel) ⟨Nat.le_of_ble_eq_true rfl, Nat.le_of_ble_eq_true rfl⟩ ⟨Nat.le_of_ble_eq_true rfl, Nat.le_of_ble_eq_true rfl⟩ (zRecv (q := (RX10, TX10, 29)) hz (zAt.mt 0 0 rfl rfl) rfl) rfl rfl (Nat.le_of_ble_eq_true rfl) dX10_body_310) (mM_f00 ad iv g (bgF 60 sv) w K hw hK8 hK (bgF_le hs40) x) [0, 1, 2] rfl (by decide) rfl rfl ?_
  refine z_ineg hz dX10_body_313 ?_
  exact z_iret hQ hz hr hlk dX10_body_314 ⟨rfl, rfl⟩
set_option maxHeartbeats 400000 in
theorem mM_f20 {G : zG} (ad : Nat → Nat) (iv g : Nat → Int32) (sv : zV) (w K : Nat) (hw : w < 12) (hK8 : K < 8) (hK : g (152 + 4 * w) = nI K) (hs40 : sv.2 ≤ 40) (x : Int32) : zMet G yX10_bodyFrom (ws_ yX10_bodyFrom cX10_bodyFrom 5 (some .int)) (zRm 3 0 0 90) [.ref (ad 99), .int 2, .int 0, .int x] [zO (ad 99) 10 (mFs ad (upd (upd iv 24 (nI w)) 23 (nI sv.2))), zI (G.2.2.1 0) (ad 0) 602 g, zI (G.2.2.1 0) (ad 22) 40 sv.1] (fun v9 b9 => v9 = some (.int (b00 (nI w) x sv).1) ∧ b9 = [zO (ad 99) 10 (mFs ad (upd (upd iv 24 (nI w)) 23 (nI ((b00 (nI w) x sv).2.2)))), zI (G.2.2.1 0) (ad 0) 602 g, zI (G.2.2.1 0) (ad 22) 40 ((b00 (nI w) x sv).2.1)]) := by
  refine zMet.of (by decide +kernel) (Nat.le_of_ble_eq_true rfl) ?_
  intro p e s m args below meth c A hz hA hr hlk hnm9 Q hQ
  refine z_lv (lv' := [(0, .ref (ad 99)), (1, .int 2), (2, .int 0), (3, .int x)]) [0, 1, 2, 3] rfl ?_
  refine z_iload_n hz dX10_bodyFrom_0 1 rfl rfl ?_
  refine z_istore (lv' := [(0, .ref (ad 99)), (1, .int 2), (2, .int 0), (3, .int x), (4, .int 2)]) hz [1, 2, 3, 4, 0] dX10_bodyFrom_1 (by decide) rfl ?_
  refine z_iload hz dX10_bodyFrom_3 4 rfl ?_
  refine z_iload_n hz dX10_bodyFrom_5 2 rfl rfl ?_
  refine z_callRD (st2 := [.int (zB (ownP 2 0))]) hz zKp.mt (zk_S hz (rm := (zRm 0 0 0 0)) (As := [.int 2, .int 0]) (rest := []) 2 q2437 q2438 q95 q2439 (by decide +kernel) ⟨Nat.le_of_ble_eq_true rfl, Nat.le_of_ble_eq_true rfl⟩ ⟨Nat.le_of_ble_eq_true rfl, Nat.le_of_ble_eq_true rfl⟩ rfl rfl (Nat.le_of_ble_eq_true rfl) dX10_bodyFrom_6) (mM_hasOwn 2 0 (by decide) (by decide)) (fun _ _ _ => zP0) rfl ?_
  refine z_ifB_neF hz 22 dX10_bodyFrom_9 (by decide) (by decide) ?_
  refine z_iload hz dX10_bodyFrom_12 4 rfl ?_
  refine z_callRD (st2 := [.int 0]) hz zKp.mt (zk_S hz (rm := (zRm 0 0 0 0)) (As := [.int 2]) (rest := []) 1 q2229 q2230 q95 q2231 (by decide +kernel) ⟨Nat.le_of_ble_eq_true rfl, Nat.le_of_ble_eq_true rfl⟩ ⟨Nat.le_of_ble_eq_true rfl, Nat.le_of_ble_eq_true rfl⟩ rfl rfl (Nat.le_of_ble_eq_true rfl) dX10_bodyFrom_14) (mM_above 2 (by decide)) (fun _ _ _ => zP0) rfl ?_
  refine z_istore (lv' := [(0, .ref (ad 99)), (1, .int 2), (2, .int 0), (3, .int x), (4, .int 0)]) hz [1, 2, 3, 4, 0] dX10_bodyFrom_17 (by decide) rfl ?_
  refine z_goto hz 3 dX10_bodyFrom_19 (by decide) ?_
  refine z_iload hz dX10_bodyFrom_3 4 rfl ?_
  refine z_iload_n hz dX10_bodyFrom_5 2 rfl rfl ?_
  refine z_callRD (st2 := [.int (zB (ownP 0 0))]) hz zKp.mt (zk_S hz (rm := (zRm 0 0 0 0)) (As := [.int 0, .int 0]) (rest := []) 2 q2437 q2438 q95 q2439 (by decide +kernel) ⟨Nat.le_of_ble_eq_true rfl, Nat.le_of_ble_eq_true rfl⟩ ⟨Nat.le_of_ble_eq_true rfl, Nat.le_of_ble_eq_true rfl⟩ rfl rfl (Nat.le_of_ble_eq_true rfl) dX10_bodyFrom_6) (mM_hasOwn 0 0 (by decide) (by decide)) (fun _ _ _ => zP0) rfl ?_
  refine z_ifB_neT hz 22 dX10_bodyFrom_9 (by decide) (by decide) ?_
  refine z_aload_n hz dX10_bodyFrom_22 0 rfl rfl ?_
  refine z_iload hz dX10_bodyFrom_23 4 rfl ?_
  refine z_iload_n hz dX10_bodyFrom_25 2 rfl rfl ?_
  refine z_iload_n hz dX10_bodyFrom_26 3 rfl rfl ?_
  refine z_callD (bs2 := [zO (ad 99) 10 (mFs ad (upd (upd iv 24 (nI w)) 23 (nI ((b00 (nI w) x sv).2.2)))), zI (G.2.2.1 0) (ad 0) 602 g, zI (G.2.2.1 0) (ad 22) 40 ((b00 (nI w) x sv).2.1)]) (st2 := [.int ((b00 (nI w) x sv).1)]) hz hA (zk_V hz (rm := (zRm 2 0 0 60)) (As := [.int 0, .int 0, .int x]) (rest := []) 3 q2440 q2442 qs76 q95 q2443 (by decide +kernel) ⟨Nat.le_of_ble_eq_true rfl, Nat.le_of_ble_eq_true rfl⟩ ⟨Nat.le_of_ble_eq_true rfl, Nat.le_of_ble_eq_true rfl⟩ (zRecv (q := (RX10, TX10, 29)) hz (zAt.mt 0 0 rfl rfl) rfl) rfl rfl (Nat.le_of_ble_eq_true rfl) dX10_bodyFrom_27) (mM_b00 ad iv g sv w K hw hK8 hK hs40 x) [0, 1, 2] rfl (by decide) rfl rfl ?_
  exact z_iret hQ hz hr hlk dX10_bodyFrom_30 ⟨rfl, rfl⟩
set_option maxHeartbeats 400000 in
theorem mM_f30 {G : zG} (ad : Nat → Nat) (iv g : Nat → Int32) (sv : zV) (w K : Nat) (hw : w < 12) (hK8 : K < 8) (hK : g (152 + 4 * w) = nI K) (hs40 : sv.2 ≤ 40) (x : Int32) : zMet G yX10_bodyFrom (ws_ yX10_bodyFrom cX10_bodyFrom 5 (some .int)) (zRm 5 0 0 150) [.ref (ad 99), .int 3, .int 0, .int x] [zO (ad 99) 10 (mFs ad (upd (upd iv 24 (nI w)) 23 (nI sv.2))), zI (G.2.2.1 0) (ad 0) 602 g, zI (G.2.2.1 0) (ad 22) 40 sv.1] (fun v9 b9 => v9 = some (.int (b30 (nI w) x sv).1) ∧ b9 = [zO (ad 99) 10 (mFs ad (upd (upd iv 24 (nI w)) 23 (nI ((b30 (nI w) x sv).2.2)))), zI (G.2.2.1 0) (ad 0) 602 g, zI (G.2.2.1 0) (ad 22) 40 ((b30 (nI w) x sv).2.1)]) := by
  refine zMet.of (by decide +kernel) (Nat.le_of_ble_eq_true rfl) ?_
  intro p e s m args below meth c A hz hA hr hlk hnm9 Q hQ
  refine z_lv (lv' := [(0, .ref (ad 99)), (1, .int 3), (2, .int 0), (3, .int x)]) [0, 1, 2, 3] rfl ?_
  refine z_iload_n hz dX10_bodyFrom_0 1 rfl rfl ?_
  refine z_istore (lv' := [(0, .ref (ad 99)), (1, .int 3), (2, .int 0), (3, .int x), (4, .int 3)]) hz [1, 2, 3, 4, 0] dX10_bodyFrom_1 (by decide) rfl ?_
  refine z_iload hz dX10_bodyFrom_3 4 rfl ?_
  refine z_iload_n hz dX10_bodyFrom_5 2 rfl rfl ?_
  refine z_callRD (st2 := [.int (zB (ownP 3 0))]) hz zKp.mt (zk_S hz (rm := (zRm 0 0 0 0)) (As := [.int 3, .int 0]) (rest := []) 2 q2437 q2438 q95 q2439 (by decide +kernel) ⟨Nat.le_of_ble_eq_true rfl, Nat.le_of_ble_eq_true rfl⟩ ⟨Nat.le_of_ble_eq_true rfl, Nat.le_of_ble_eq_true rfl⟩ rfl rfl (Nat.le_of_ble_eq_true rfl) dX10_bodyFrom_6) (mM_hasOwn 3 0 (by decide) (by decide)) (fun _ _ _ => zP0) rfl ?_
  refine z_ifB_neT hz 22 dX10_bodyFrom_9 (by decide) (by decide) ?_
  refine z_aload_n hz dX10_bodyFrom_22 0 rfl rfl ?_
  refine z_iload hz dX10_bodyFrom_23 4 rfl ?_
  refine z_iload_n hz dX10_bodyFrom_25 2 rfl rfl ?_
  refine z_iload_n hz dX10_bodyFrom_26 3 rfl rfl ?_
  refine z_callD (bs2 := [zO (ad 99) 10 (mFs ad (upd (upd iv 24 (nI w)) 23 (nI ((b30 (nI w) x sv).2.2)))), zI (G.2.2.1 0) (ad 0) 602 g, zI (G.2.2.1 0) (ad 22) 40 ((b30 (nI w) x sv).2.1)]) (st2 := [.int ((b30 (nI w) x sv).1)]) hz hA (zk_V hz (rm := (zRm 4 0 0 120)) (As := [.int 3, .int 0, .int x]) (rest := []) 3 q2440 q2442 qs76 q95 q2443 (by decide +kernel) ⟨Nat.le_of_ble_eq_true rfl, Nat.le_of_ble_eq_true rfl⟩ ⟨Nat.le_of_ble_eq_true rfl, Nat.le_of_ble_eq_true rfl⟩ (zRecv (q := (RX10, TX10, 29)) hz (zAt.mt 0 0 rfl rfl) rfl) rfl rfl (Nat.le_of_ble_eq_true rfl) dX10_bodyFrom_27) (mM_b30 ad iv g sv w K hw hK8 hK hs40 x) [0, 1, 2] rfl (by decide) rfl rfl ?_
  exact z_iret hQ hz hr hlk dX10_bodyFrom_30 ⟨rfl, rfl⟩
set_option maxHeartbeats 400000 in
theorem mM_f40 {G : zG} (ad : Nat → Nat) (iv g : Nat → Int32) (sv : zV) (w K : Nat) (hw : w < 12) (hK8 : K < 8) (hK : g (152 + 4 * w) = nI K) (hs40 : sv.2 ≤ 40) (x : Int32) : zMet G yX10_bodyFrom (ws_ yX10_bodyFrom cX10_bodyFrom 5 (some .int)) (zRm 3 0 0 90) [.ref (ad 99), .int 4, .int 0, .int x] [zO (ad 99) 10 (mFs ad (upd (upd iv 24 (nI w)) 23 (nI sv.2))), zI (G.2.2.1 0) (ad 0) 602 g, zI (G.2.2.1 0) (ad 22) 40 sv.1] (fun v9 b9 => v9 = some (.int (b00 (nI w) x sv).1) ∧ b9 = [zO (ad 99) 10 (mFs ad (upd (upd iv 24 (nI w)) 23 (nI ((b00 (nI w) x sv).2.2)))), zI (G.2.2.1 0) (ad 0) 602 g, zI (G.2.2.1 0) (ad 22) 40 ((b00 (nI w) x sv).2.1)]) := by
  refine zMet.of (by decide +kernel) (Nat.le_of_ble_eq_true rfl) ?_
  intro p e s m args below meth c A hz hA hr hlk hnm9 Q hQ
  refine z_lv (lv' := [(0, .ref (ad 99)), (1, .int 4), (2, .int 0), (3, .int x)]) [0, 1, 2, 3] rfl ?_
  refine z_iload_n hz dX10_bodyFrom_0 1 rfl rfl ?_
  refine z_istore (lv' := [(0, .ref (ad 99)), (1, .int 4), (2, .int 0), (3, .int x), (4, .int 4)]) hz [1, 2, 3, 4, 0] dX10_bodyFrom_1 (by decide) rfl ?_
  refine z_iload hz dX10_bodyFrom_3 4 rfl ?_
  refine z_iload_n hz dX10_bodyFrom_5 2 rfl rfl ?_
  refine z_callRD (st2 := [.int (zB (ownP 4 0))]) hz zKp.mt (zk_S hz (rm := (zRm 0 0 0 0)) (As := [.int 4, .int 0]) (rest := []) 2 q2437 q2438 q95 q2439 (by decide +kernel) ⟨Nat.le_of_ble_eq_true rfl, Nat.le_of_ble_eq_true rfl⟩ ⟨Nat.le_of_ble_eq_true rfl, Nat.le_of_ble_eq_true rfl⟩ rfl rfl (Nat.le_of_ble_eq_true rfl) dX10_bodyFrom_6) (mM_hasOwn 4 0 (by decide) (by decide)) (fun _ _ _ => zP0) rfl ?_
  refine z_ifB_neF hz 22 dX10_bodyFrom_9 (by decide) (by decide) ?_
  refine z_iload hz dX10_bodyFrom_12 4 rfl ?_
  refine z_callRD (st2 := [.int 0]) hz zKp.mt (zk_S hz (rm := (zRm 0 0 0 0)) (As := [.int 4]) (rest := []) 1 q2229 q2230 q95 q2231 (by decide +kernel) ⟨Nat.le_of_ble_eq_true rfl, Nat.le_of_ble_eq_true rfl⟩ ⟨Nat.le_of_ble_eq_true rfl, Nat.le_of_ble_eq_true rfl⟩ rfl rfl (Nat.le_of_ble_eq_true rfl) dX10_bodyFrom_14) (mM_above 4 (by decide)) (fun _ _ _ => zP0) rfl ?_
  refine z_istore (lv' := [(0, .ref (ad 99)), (1, .int 4), (2, .int 0), (3, .int x), (4, .int 0)]) hz [1, 2, 3, 4, 0] dX10_bodyFrom_17 (by decide) rfl ?_
  refine z_goto hz 3 dX10_bodyFrom_19 (by decide) ?_
  refine z_iload hz dX10_bodyFrom_3 4 rfl ?_
  refine z_iload_n hz dX10_bodyFrom_5 2 rfl rfl ?_
  refine z_callRD (st2 := [.int (zB (ownP 0 0))]) hz zKp.mt (zk_S hz (rm := (zRm 0 0 0 0)) (As := [.int 0, .int 0]) (rest := []) 2 q2437 q2438 q95 q2439 (by decide +kernel) ⟨Nat.le_of_ble_eq_true rfl, Nat.le_of_ble_eq_true rfl⟩ ⟨Nat.le_of_ble_eq_true rfl, Nat.le_of_ble_eq_true rfl⟩ rfl rfl (Nat.le_of_ble_eq_true rfl) dX10_bodyFrom_6) (mM_hasOwn 0 0 (by decide) (by decide)) (fun _ _ _ => zP0) rfl ?_
  refine z_ifB_neT hz 22 dX10_bodyFrom_9 (by decide) (by decide) ?_
  refine z_aload_n hz dX10_bodyFrom_22 0 rfl rfl ?_
  refine z_iload hz dX10_bodyFrom_23 4 rfl ?_
  refine z_iload_n hz dX10_bodyFrom_25 2 rfl rfl ?_
  refine z_iload_n hz dX10_bodyFrom_26 3 rfl rfl ?_
  refine z_callD (bs2 := [zO (ad 99) 10 (mFs ad (upd (upd iv 24 (nI w)) 23 (nI ((b00 (nI w) x sv).2.2)))), zI (G.2.2.1 0) (ad 0) 602 g, zI (G.2.2.1 0) (ad 22) 40 ((b00 (nI w) x sv).2.1)]) (st2 := [.int ((b00 (nI w) x sv).1)]) hz hA (zk_V hz (rm := (zRm 2 0 0 60)) (As := [.int 0, .int 0, .int x]) (rest := []) 3 q2440 q2442 qs76 q95 q2443 (by decide +kernel) ⟨Nat.le_of_ble_eq_true rfl, Nat.le_of_ble_eq_true rfl⟩ ⟨Nat.le_of_ble_eq_true rfl, Nat.le_of_ble_eq_true rfl⟩ (zRecv (q := (RX10, TX10, 29)) hz (zAt.mt 0 0 rfl rfl) rfl) rfl rfl (Nat.le_of_ble_eq_true rfl) dX10_bodyFrom_27) (mM_b00 ad iv g sv w K hw hK8 hK hs40 x) [0, 1, 2] rfl (by decide) rfl rfl ?_
  exact z_iret hQ hz hr hlk dX10_bodyFrom_30 ⟨rfl, rfl⟩
set_option maxHeartbeats 400000 in
theorem mM_f50 {G : zG} (ad : Nat → Nat) (iv g : Nat → Int32) (sv : zV) (w K : Nat) (hw : w < 12) (hK8 : K < 8) (hK : g (152 + 4 * w) = nI K) (hs40 : sv.2 ≤ 40) (x : Int32) : zMet G yX10_bodyFrom (ws_ yX10_bodyFrom cX10_bodyFrom 5 (some .int)) (zRm 5 0 0 150) [.ref (ad 99), .int 5, .int 0, .int x] [zO (ad 99) 10 (mFs ad (upd (upd iv 24 (nI w)) 23 (nI sv.2))), zI (G.2.2.1 0) (ad 0) 602 g, zI (G.2.2.1 0) (ad 22) 40 sv.1] (fun v9 b9 => v9 = some (.int (b50 (nI w) x sv).1) ∧ b9 = [zO (ad 99) 10 (mFs ad (upd (upd iv 24 (nI w)) 23 (nI ((b50 (nI w) x sv).2.2)))), zI (G.2.2.1 0) (ad 0) 602 g, zI (G.2.2.1 0) (ad 22) 40 ((b50 (nI w) x sv).2.1)]) := by
  refine zMet.of (by decide +kernel) (Nat.le_of_ble_eq_true rfl) ?_
  intro p e s m args below meth c A hz hA hr hlk hnm9 Q hQ
  refine z_lv (lv' := [(0, .ref (ad 99)), (1, .int 5), (2, .int 0), (3, .int x)]) [0, 1, 2, 3] rfl ?_
  refine z_iload_n hz dX10_bodyFrom_0 1 rfl rfl ?_
  refine z_istore (lv' := [(0, .ref (ad 99)), (1, .int 5), (2, .int 0), (3, .int x), (4, .int 5)]) hz [1, 2, 3, 4, 0] dX10_bodyFrom_1 (by decide) rfl ?_
  refine z_iload hz dX10_bodyFrom_3 4 rfl ?_
  refine z_iload_n hz dX10_bodyFrom_5 2 rfl rfl ?_
  refine z_callRD (st2 := [.int (zB (ownP 5 0))]) hz zKp.mt (zk_S hz (rm := (zRm 0 0 0 0)) (As := [.int 5, .int 0]) (rest := []) 2 q2437 q2438 q95 q2439 (by decide +kernel) ⟨Nat.le_of_ble_eq_true rfl, Nat.le_of_ble_eq_true rfl⟩ ⟨Nat.le_of_ble_eq_true rfl, Nat.le_of_ble_eq_true rfl⟩ rfl rfl (Nat.le_of_ble_eq_true rfl) dX10_bodyFrom_6) (mM_hasOwn 5 0 (by decide) (by decide)) (fun _ _ _ => zP0) rfl ?_
  refine z_ifB_neT hz 22 dX10_bodyFrom_9 (by decide) (by decide) ?_
  refine z_aload_n hz dX10_bodyFrom_22 0 rfl rfl ?_
  refine z_iload hz dX10_bodyFrom_23 4 rfl ?_
  refine z_iload_n hz dX10_bodyFrom_25 2 rfl rfl ?_
  refine z_iload_n hz dX10_bodyFrom_26 3 rfl rfl ?_
  refine z_callD (bs2 := [zO (ad 99) 10 (mFs ad (upd (upd iv 24 (nI w)) 23 (nI ((b50 (nI w) x sv).2.2)))), zI (G.2.2.1 0) (ad 0) 602 g, zI (G.2.2.1 0) (ad 22) 40 ((b50 (nI w) x sv).2.1)]) (st2 := [.int ((b50 (nI w) x sv).1)]) hz hA (zk_V hz (rm := (zRm 4 0 0 120)) (As := [.int 5, .int 0, .int x]) (rest := []) 3 q2440 q2442 qs76 q95 q2443 (by decide +kernel) ⟨Nat.le_of_ble_eq_true rfl, Nat.le_of_ble_eq_true rfl⟩ ⟨Nat.le_of_ble_eq_true rfl, Nat.le_of_ble_eq_true rfl⟩ (zRecv (q := (RX10, TX10, 29)) hz (zAt.mt 0 0 rfl rfl) rfl) rfl rfl (Nat.le_of_ble_eq_true rfl) dX10_bodyFrom_27) (mM_b50 ad iv g sv w K hw hK8 hK hs40 x) [0, 1, 2] rfl (by decide) rfl rfl ?_
  exact z_iret hQ hz hr hlk dX10_bodyFrom_30 ⟨rfl, rfl⟩
set_option maxHeartbeats 400000 in
theorem mM_f60 {G : zG} (ad : Nat → Nat) (iv g : Nat → Int32) (sv : zV) (w K : Nat) (hw : w < 12) (hK8 : K < 8) (hK : g (152 + 4 * w) = nI K) (hs40 : sv.2 ≤ 40) (x : Int32) : zMet G yX10_bodyFrom (ws_ yX10_bodyFrom cX10_bodyFrom 5 (some .int)) (zRm 3 0 0 90) [.ref (ad 99), .int 6, .int 0, .int x] [zO (ad 99) 10 (mFs ad (upd (upd iv 24 (nI w)) 23 (nI sv.2))), zI (G.2.2.1 0) (ad 0) 602 g, zI (G.2.2.1 0) (ad 22) 40 sv.1] (fun v9 b9 => v9 = some (.int (b00 (nI w) x sv).1) ∧ b9 = [zO (ad 99) 10 (mFs ad (upd (upd iv 24 (nI w)) 23 (nI ((b00 (nI w) x sv).2.2)))), zI (G.2.2.1 0) (ad 0) 602 g, zI (G.2.2.1 0) (ad 22) 40 ((b00 (nI w) x sv).2.1)]) := by
  refine zMet.of (by decide +kernel) (Nat.le_of_ble_eq_true rfl) ?_
  intro p e s m args below meth c A hz hA hr hlk hnm9 Q hQ
  refine z_lv (lv' := [(0, .ref (ad 99)), (1, .int 6), (2, .int 0), (3, .int x)]) [0, 1, 2, 3] rfl ?_
  refine z_iload_n hz dX10_bodyFrom_0 1 rfl rfl ?_
  refine z_istore (lv' := [(0, .ref (ad 99)), (1, .int 6), (2, .int 0), (3, .int x), (4, .int 6)]) hz [1, 2, 3, 4, 0] dX10_bodyFrom_1 (by decide) rfl ?_
  refine z_iload hz dX10_bodyFrom_3 4 rfl ?_
  refine z_iload_n hz dX10_bodyFrom_5 2 rfl rfl ?_
  refine z_callRD (st2 := [.int (zB (ownP 6 0))]) hz zKp.mt (zk_S hz (rm := (zRm 0 0 0 0)) (As := [.int 6, .int 0]) (rest := []) 2 q2437 q2438 q95 q2439 (by decide +kernel) ⟨Nat.le_of_ble_eq_true rfl, Nat.le_of_ble_eq_true rfl⟩ ⟨Nat.le_of_ble_eq_true rfl, Nat.le_of_ble_eq_true rfl⟩ rfl rfl (Nat.le_of_ble_eq_true rfl) dX10_bodyFrom_6) (mM_hasOwn 6 0 (by decide) (by decide)) (fun _ _ _ => zP0) rfl ?_
  refine z_ifB_neF hz 22 dX10_bodyFrom_9 (by decide) (by decide) ?_
  refine z_iload hz dX10_bodyFrom_12 4 rfl ?_
  refine z_callRD (st2 := [.int 1]) hz zKp.mt (zk_S hz (rm := (zRm 0 0 0 0)) (As := [.int 6]) (rest := []) 1 q2229 q2230 q95 q2231 (by decide +kernel) ⟨Nat.le_of_ble_eq_true rfl, Nat.le_of_ble_eq_true rfl⟩ ⟨Nat.le_of_ble_eq_true rfl, Nat.le_of_ble_eq_true rfl⟩ rfl rfl (Nat.le_of_ble_eq_true rfl) dX10_bodyFrom_14) (mM_above 6 (by decide)) (fun _ _ _ => zP0) rfl ?_
  refine z_istore (lv' := [(0, .ref (ad 99)), (1, .int 6), (2, .int 0), (3, .int x), (4, .int 1)]) hz [1, 2, 3, 4, 0] dX10_bodyFrom_17 (by decide) rfl ?_
  refine z_goto hz 3 dX10_bodyFrom_19 (by decide) ?_
  refine z_iload hz dX10_bodyFrom_3 4 rfl ?_
  refine z_iload_n hz dX10_bodyFrom_5 2 rfl rfl ?_
  refine z_callRD (st2 := [.int (zB (ownP 1 0))]) hz zKp.mt (zk_S hz (rm := (zRm 0 0 0 0)) (As := [.int 1, .int 0]) (rest := []) 2 q2437 q2438 q95 q2439 (by decide +kernel) ⟨Nat.le_of_ble_eq_true rfl, Nat.le_of_ble_eq_true rfl⟩ ⟨Nat.le_of_ble_eq_true rfl, Nat.le_of_ble_eq_true rfl⟩ rfl rfl (Nat.le_of_ble_eq_true rfl) dX10_bodyFrom_6) (mM_hasOwn 1 0 (by decide) (by decide)) (fun _ _ _ => zP0) rfl ?_
  refine z_ifB_neF hz 22 dX10_bodyFrom_9 (by decide) (by decide) ?_
  refine z_iload hz dX10_bodyFrom_12 4 rfl ?_
  refine z_callRD (st2 := [.int 0]) hz zKp.mt (zk_S hz (rm := (zRm 0 0 0 0)) (As := [.int 1]) (rest := []) 1 q2229 q2230 q95 q2231 (by decide +kernel) ⟨Nat.le_of_ble_eq_true rfl, Nat.le_of_ble_eq_true rfl⟩ ⟨Nat.le_of_ble_eq_true rfl, Nat.le_of_ble_eq_true rfl⟩ rfl rfl (Nat.le_of_ble_eq_true rfl) dX10_bodyFrom_14) (mM_above 1 (by decide)) (fun _ _ _ => zP0) rfl ?_
  refine z_istore (lv' := [(0, .ref (ad 99)), (1, .int 6), (2, .int 0), (3, .int x), (4, .int 0)]) hz [1, 2, 3, 4, 0] dX10_bodyFrom_17 (by decide) rfl ?_
  refine z_goto hz 3 dX10_bodyFrom_19 (by decide) ?_
  refine z_iload hz dX10_bodyFrom_3 4 rfl ?_
  refine z_iload_n hz dX10_bodyFrom_5 2 rfl rfl ?_
  refine z_callRD (st2 := [.int (zB (ownP 0 0))]) hz zKp.mt (zk_S hz (rm := (zRm 0 0 0 0)) (As := [.int 0, .int 0]) (rest := []) 2 q2437 q2438 q95 q2439 (by decide +kernel) ⟨Nat.le_of_ble_eq_true rfl, Nat.le_of_ble_eq_true rfl⟩ ⟨Nat.le_of_ble_eq_true rfl, Nat.le_of_ble_eq_true rfl⟩ rfl rfl (Nat.le_of_ble_eq_true rfl) dX10_bodyFrom_6) (mM_hasOwn 0 0 (by decide) (by decide)) (fun _ _ _ => zP0) rfl ?_
  refine z_ifB_neT hz 22 dX10_bodyFrom_9 (by decide) (by decide) ?_
  refine z_aload_n hz dX10_bodyFrom_22 0 rfl rfl ?_
  refine z_iload hz dX10_bodyFrom_23 4 rfl ?_
  refine z_iload_n hz dX10_bodyFrom_25 2 rfl rfl ?_
  refine z_iload_n hz dX10_bodyFrom_26 3 rfl rfl ?_
  refine z_callD (bs2 := [zO (ad 99) 10 (mFs ad (upd (upd iv 24 (nI w)) 23 (nI ((b00 (nI w) x sv).2.2)))), zI (G.2.2.1 0) (ad 0) 602 g, zI (G.2.2.1 0) (ad 22) 40 ((b00 (nI w) x sv).2.1)]) (st2 := [.int ((b00 (nI w) x sv).1)]) hz hA (zk_V hz (rm := (zRm 2 0 0 60)) (As := [.int 0, .int 0, .int x]) (rest := []) 3 q2440 q2442 qs76 q95 q2443 (by decide +kernel) ⟨Nat.le_of_ble_eq_true rfl, Nat.le_of_ble_eq_true rfl⟩ ⟨Nat.le_of_ble_eq_true rfl, Nat.le_of_ble_eq_true rfl⟩ (zRecv (q := (RX10, TX10, 29)) hz (zAt.mt 0 0 rfl rfl) rfl) rfl rfl (Nat.le_of_ble_eq_true rfl) dX10_bodyFrom_27) (mM_b00 ad iv g sv w K hw hK8 hK hs40 x) [0, 1, 2] rfl (by decide) rfl rfl ?_
  exact z_iret hQ hz hr hlk dX10_bodyFrom_30 ⟨rfl, rfl⟩
set_option maxHeartbeats 400000 in
theorem mM_f70 {G : zG} (ad : Nat → Nat) (iv g : Nat → Int32) (sv : zV) (w K : Nat) (hw : w < 12) (hK8 : K < 8) (hK : g (152 + 4 * w) = nI K) (hs40 : sv.2 ≤ 40) (x : Int32) : zMet G yX10_bodyFrom (ws_ yX10_bodyFrom cX10_bodyFrom 5 (some .int)) (zRm 5 0 0 150) [.ref (ad 99), .int 7, .int 0, .int x] [zO (ad 99) 10 (mFs ad (upd (upd iv 24 (nI w)) 23 (nI sv.2))), zI (G.2.2.1 0) (ad 0) 602 g, zI (G.2.2.1 0) (ad 22) 40 sv.1] (fun v9 b9 => v9 = some (.int (b50 (nI w) x sv).1) ∧ b9 = [zO (ad 99) 10 (mFs ad (upd (upd iv 24 (nI w)) 23 (nI ((b50 (nI w) x sv).2.2)))), zI (G.2.2.1 0) (ad 0) 602 g, zI (G.2.2.1 0) (ad 22) 40 ((b50 (nI w) x sv).2.1)]) := by
  refine zMet.of (by decide +kernel) (Nat.le_of_ble_eq_true rfl) ?_
  intro p e s m args below meth c A hz hA hr hlk hnm9 Q hQ
  refine z_lv (lv' := [(0, .ref (ad 99)), (1, .int 7), (2, .int 0), (3, .int x)]) [0, 1, 2, 3] rfl ?_
  refine z_iload_n hz dX10_bodyFrom_0 1 rfl rfl ?_
  refine z_istore (lv' := [(0, .ref (ad 99)), (1, .int 7), (2, .int 0), (3, .int x), (4, .int 7)]) hz [1, 2, 3, 4, 0] dX10_bodyFrom_1 (by decide) rfl ?_
  refine z_iload hz dX10_bodyFrom_3 4 rfl ?_
  refine z_iload_n hz dX10_bodyFrom_5 2 rfl rfl ?_
  refine z_callRD (st2 := [.int (zB (ownP 7 0))]) hz zKp.mt (zk_S hz (rm := (zRm 0 0 0 0)) (As := [.int 7, .int 0]) (rest := []) 2 q2437 q2438 q95 q2439 (by decide +kernel) ⟨Nat.le_of_ble_eq_true rfl, Nat.le_of_ble_eq_true rfl⟩ ⟨Nat.le_of_ble_eq_true rfl, Nat.le_of_ble_eq_true rfl⟩ rfl rfl (Nat.le_of_ble_eq_true rfl) dX10_bodyFrom_6) (mM_hasOwn 7 0 (by decide) (by decide)) (fun _ _ _ => zP0) rfl ?_
  refine z_ifB_neF hz 22 dX10_bodyFrom_9 (by decide) (by decide) ?_
  refine z_iload hz dX10_bodyFrom_12 4 rfl ?_
  refine z_callRD (st2 := [.int 5]) hz zKp.mt (zk_S hz (rm := (zRm 0 0 0 0)) (As := [.int 7]) (rest := []) 1 q2229 q2230 q95 q2231 (by decide +kernel) ⟨Nat.le_of_ble_eq_true rfl, Nat.le_of_ble_eq_true rfl⟩ ⟨Nat.le_of_ble_eq_true rfl, Nat.le_of_ble_eq_true rfl⟩ rfl rfl (Nat.le_of_ble_eq_true rfl) dX10_bodyFrom_14) (mM_above 7 (by decide)) (fun _ _ _ => zP0) rfl ?_
  refine z_istore (lv' := [(0, .ref (ad 99)), (1, .int 7), (2, .int 0), (3, .int x), (4, .int 5)]) hz [1, 2, 3, 4, 0] dX10_bodyFrom_17 (by decide) rfl ?_
  refine z_goto hz 3 dX10_bodyFrom_19 (by decide) ?_
  refine z_iload hz dX10_bodyFrom_3 4 rfl ?_
  refine z_iload_n hz dX10_bodyFrom_5 2 rfl rfl ?_
  refine z_callRD (st2 := [.int (zB (ownP 5 0))]) hz zKp.mt (zk_S hz (rm := (zRm 0 0 0 0)) (As := [.int 5, .int 0]) (rest := []) 2 q2437 q2438 q95 q2439 (by decide +kernel) ⟨Nat.le_of_ble_eq_true rfl, Nat.le_of_ble_eq_true rfl⟩ ⟨Nat.le_of_ble_eq_true rfl, Nat.le_of_ble_eq_true rfl⟩ rfl rfl (Nat.le_of_ble_eq_true rfl) dX10_bodyFrom_6) (mM_hasOwn 5 0 (by decide) (by decide)) (fun _ _ _ => zP0) rfl ?_
  refine z_ifB_neT hz 22 dX10_bodyFrom_9 (by decide) (by decide) ?_
  refine z_aload_n hz dX10_bodyFrom_22 0 rfl rfl ?_
  refine z_iload hz dX10_bodyFrom_23 4 rfl ?_
  refine z_iload_n hz dX10_bodyFrom_25 2 rfl rfl ?_
  refine z_iload_n hz dX10_bodyFrom_26 3 rfl rfl ?_
  refine z_callD (bs2 := [zO (ad 99) 10 (mFs ad (upd (upd iv 24 (nI w)) 23 (nI ((b50 (nI w) x sv).2.2)))), zI (G.2.2.1 0) (ad 0) 602 g, zI (G.2.2.1 0) (ad 22) 40 ((b50 (nI w) x sv).2.1)]) (st2 := [.int ((b50 (nI w) x sv).1)]) hz hA (zk_V hz (rm := (zRm 4 0 0 120)) (As := [.int 5, .int 0, .int x]) (rest := []) 3 q2440 q2442 qs76 q95 q2443 (by decide +kernel) ⟨Nat.le_of_ble_eq_true rfl, Nat.le_of_ble_eq_true rfl⟩ ⟨Nat.le_of_ble_eq_true rfl, Nat.le_of_ble_eq_true rfl⟩ (zRecv (q := (RX10, TX10, 29)) hz (zAt.mt 0 0 rfl rfl) rfl) rfl rfl (Nat.le_of_ble_eq_true rfl) dX10_bodyFrom_27) (mM_b50 ad iv g sv w K hw hK8 hK hs40 x) [0, 1, 2] rfl (by decide) rfl rfl ?_
  exact z_iret hQ hz hr hlk dX10_bodyFrom_30 ⟨rfl, rfl⟩
set_option maxHeartbeats 400000 in
theorem mM_v0_0 {G : zG} (ad : Nat → Nat) (iv g : Nat → Int32) (sv : zV) (w : Nat) (hw : w < 12) (hK : g (152 + 4 * w) = nI 0) (hs40 : sv.2 ≤ 40) (x : Int32) : zMet G yX10_voiced (ws_ yX10_voiced cX10_voiced 3 (some .int)) (zRm 6 0 0 180) [.ref (ad 99), .int 0, .int x] [zO (ad 99) 10 (mFs ad (upd (upd iv 24 (nI w)) 23 (nI sv.2))), zI (G.2.2.1 0) (ad 0) 602 g, zI (G.2.2.1 0) (ad 22) 40 sv.1] (fun v9 b9 => v9 = some (.int (v0 (nI w) 0 x sv).1) ∧ b9 = [zO (ad 99) 10 (mFs ad (upd (upd iv 24 (nI w)) 23 (nI ((v0 (nI w) 0 x sv).2.2)))), zI (G.2.2.1 0) (ad 0) 602 g, zI (G.2.2.1 0) (ad 22) 40 ((v0 (nI w) 0 x sv).2.1)]) := by
  refine zMet.of (by decide +kernel) (Nat.le_of_ble_eq_true rfl) ?_
  intro p e s m args below meth c A hz hA hr hlk hnm9 Q hQ
  refine z_lv (lv' := [(0, .ref (ad 99)), (1, .int 0), (2, .int x)]) [0, 1, 2] rfl ?_
  refine z_aload_n hz dX10_voiced_0 0 rfl rfl ?_
  refine z_aload_n hz dX10_voiced_1 0 rfl rfl ?_
  refine z_aload_n hz dX10_voiced_2 0 rfl rfl ?_
  refine z_get (C := RX10) (T := TX10) (N := 29) hz in_X10 (zAt.mt 0 0 rfl rfl) rfl 24 (by decide) q1953 (fun _ h9 => h9) rfl dX10_voiced_3 ?_
  refine z_iconst hz 0 dX10_voiced_6 ki_0 ?_
  refine z_callRD (st2 := [.int (g (152 + 4 * w)), .ref (ad 99)]) hz zKp.mt (zk_V hz (rm := (zRm 0 0 0 0)) (As := [.int (nI w), .int 0]) (rest := [.ref (ad 99)]) 2 q2225 q2227 qs57 q95 q2228 (by decide +kernel) ⟨Nat.le_of_ble_eq_true rfl, Nat.le_of_ble_eq_true rfl⟩ ⟨Nat.le_of_ble_eq_true rfl, Nat.le_of_ble_eq_true rfl⟩ (zRecv (q := (RX10, TX10, 29)) hz (zAt.mt 0 0 rfl rfl) rfl) rfl rfl (Nat.le_of_ble_eq_true rfl) dX10_voiced_7) (mM_way2 ad (upd (upd iv 24 (nI w)) 23 (nI sv.2)) g w 0 (by omega)) (fun H9 L9 h9 => (zPc (zAt.mt 0 0 rfl rfl) h9 (zPc (zAt.mt 1 0 rfl rfl) h9 zP0))) rfl ?_
  refine z_top hK ?_
  refine z_top (y := 0) (by decide) ?_
  refine z_iload_n hz dX10_voiced_10 1 rfl rfl ?_
  refine z_iload_n hz dX10_voiced_11 2 rfl rfl ?_
  refine z_callD (bs2 := [zO (ad 99) 10 (mFs ad (upd (upd iv 24 (nI w)) 23 (nI ((b00 (nI w) x sv).2.2)))), zI (G.2.2.1 0) (ad 0) 602 g, zI (G.2.2.1 0) (ad 22) 40 ((b00 (nI w) x sv).2.1)]) (st2 := [.int ((b00 (nI w) x sv).1)]) hz hA (zk_V hz (rm := (zRm 3 0 0 90)) (As := [.int 0, .int 0, .int x]) (rest := []) 3 q2433 q2435 qs75 q95 q2436 (by decide +kernel) ⟨Nat.le_of_ble_eq_true rfl, Nat.le_of_ble_eq_true rfl⟩ ⟨Nat.le_of_ble_eq_true rfl, Nat.le_of_ble_eq_true rfl⟩ (zRecv (q := (RX10, TX10, 29)) hz (zAt.mt 0 0 rfl rfl) rfl) rfl rfl (Nat.le_of_ble_eq_true rfl) dX10_voiced_12) (mM_f00 ad iv g sv w 0 hw (by decide) hK hs40 x) [0, 1, 2] rfl (by decide) rfl rfl ?_
  exact z_iret hQ hz hr hlk dX10_voiced_15 ⟨rfl, rfl⟩
set_option maxHeartbeats 400000 in
theorem mM_v0_1 {G : zG} (ad : Nat → Nat) (iv g : Nat → Int32) (sv : zV) (w : Nat) (hw : w < 12) (hK : g (152 + 4 * w) = nI 1) (hs40 : sv.2 ≤ 40) (x : Int32) : zMet G yX10_voiced (ws_ yX10_voiced cX10_voiced 3 (some .int)) (zRm 6 0 0 180) [.ref (ad 99), .int 0, .int x] [zO (ad 99) 10 (mFs ad (upd (upd iv 24 (nI w)) 23 (nI sv.2))), zI (G.2.2.1 0) (ad 0) 602 g, zI (G.2.2.1 0) (ad 22) 40 sv.1] (fun v9 b9 => v9 = some (.int (v0 (nI w) 1 x sv).1) ∧ b9 = [zO (ad 99) 10 (mFs ad (upd (upd iv 24 (nI w)) 23 (nI ((v0 (nI w) 1 x sv).2.2)))), zI (G.2.2.1 0) (ad 0) 602 g, zI (G.2.2.1 0) (ad 22) 40 ((v0 (nI w) 1 x sv).2.1)]) := by
  refine zMet.of (by decide +kernel) (Nat.le_of_ble_eq_true rfl) ?_
  intro p e s m args below meth c A hz hA hr hlk hnm9 Q hQ
  refine z_lv (lv' := [(0, .ref (ad 99)), (1, .int 0), (2, .int x)]) [0, 1, 2] rfl ?_
  refine z_aload_n hz dX10_voiced_0 0 rfl rfl ?_
  refine z_aload_n hz dX10_voiced_1 0 rfl rfl ?_
  refine z_aload_n hz dX10_voiced_2 0 rfl rfl ?_
  refine z_get (C := RX10) (T := TX10) (N := 29) hz in_X10 (zAt.mt 0 0 rfl rfl) rfl 24 (by decide) q1953 (fun _ h9 => h9) rfl dX10_voiced_3 ?_
  refine z_iconst hz 0 dX10_voiced_6 ki_0 ?_
  refine z_callRD (st2 := [.int (g (152 + 4 * w)), .ref (ad 99)]) hz zKp.mt (zk_V hz (rm := (zRm 0 0 0 0)) (As := [.int (nI w), .int 0]) (rest := [.ref (ad 99)]) 2 q2225 q2227 qs57 q95 q2228 (by decide +kernel) ⟨Nat.le_of_ble_eq_true rfl, Nat.le_of_ble_eq_true rfl⟩ ⟨Nat.le_of_ble_eq_true rfl, Nat.le_of_ble_eq_true rfl⟩ (zRecv (q := (RX10, TX10, 29)) hz (zAt.mt 0 0 rfl rfl) rfl) rfl rfl (Nat.le_of_ble_eq_true rfl) dX10_voiced_7) (mM_way2 ad (upd (upd iv 24 (nI w)) 23 (nI sv.2)) g w 0 (by omega)) (fun H9 L9 h9 => (zPc (zAt.mt 0 0 rfl rfl) h9 (zPc (zAt.mt 1 0 rfl rfl) h9 zP0))) rfl ?_
  refine z_top hK ?_
  refine z_top (y := 1) (by decide) ?_
  refine z_iload_n hz dX10_voiced_10 1 rfl rfl ?_
  refine z_iload_n hz dX10_voiced_11 2 rfl rfl ?_
  refine z_callD (bs2 := [zO (ad 99) 10 (mFs ad (upd (upd iv 24 (nI w)) 23 (nI ((b00 (nI w) x sv).2.2)))), zI (G.2.2.1 0) (ad 0) 602 g, zI (G.2.2.1 0) (ad 22) 40 ((b00 (nI w) x sv).2.1)]) (st2 := [.int ((b00 (nI w) x sv).1)]) hz hA (zk_V hz (rm := (zRm 3 0 0 90)) (As := [.int 1, .int 0, .int x]) (rest := []) 3 q2433 q2435 qs75 q95 q2436 (by decide +kernel) ⟨Nat.le_of_ble_eq_true rfl, Nat.le_of_ble_eq_true rfl⟩ ⟨Nat.le_of_ble_eq_true rfl, Nat.le_of_ble_eq_true rfl⟩ (zRecv (q := (RX10, TX10, 29)) hz (zAt.mt 0 0 rfl rfl) rfl) rfl rfl (Nat.le_of_ble_eq_true rfl) dX10_voiced_12) (mM_f10 ad iv g sv w 1 hw (by decide) hK hs40 x) [0, 1, 2] rfl (by decide) rfl rfl ?_
  exact z_iret hQ hz hr hlk dX10_voiced_15 ⟨rfl, rfl⟩
set_option maxHeartbeats 400000 in
theorem mM_v0_2 {G : zG} (ad : Nat → Nat) (iv g : Nat → Int32) (sv : zV) (w : Nat) (hw : w < 12) (hK : g (152 + 4 * w) = nI 2) (hs40 : sv.2 ≤ 40) (x : Int32) : zMet G yX10_voiced (ws_ yX10_voiced cX10_voiced 3 (some .int)) (zRm 6 0 0 180) [.ref (ad 99), .int 0, .int x] [zO (ad 99) 10 (mFs ad (upd (upd iv 24 (nI w)) 23 (nI sv.2))), zI (G.2.2.1 0) (ad 0) 602 g, zI (G.2.2.1 0) (ad 22) 40 sv.1] (fun v9 b9 => v9 = some (.int (v0 (nI w) 2 x sv).1) ∧ b9 = [zO (ad 99) 10 (mFs ad (upd (upd iv 24 (nI w)) 23 (nI ((v0 (nI w) 2 x sv).2.2)))), zI (G.2.2.1 0) (ad 0) 602 g, zI (G.2.2.1 0) (ad 22) 40 ((v0 (nI w) 2 x sv).2.1)]) := by
  refine zMet.of (by decide +kernel) (Nat.le_of_ble_eq_true rfl) ?_
  intro p e s m args below meth c A hz hA hr hlk hnm9 Q hQ
  refine z_lv (lv' := [(0, .ref (ad 99)), (1, .int 0), (2, .int x)]) [0, 1, 2] rfl ?_
  refine z_aload_n hz dX10_voiced_0 0 rfl rfl ?_
  refine z_aload_n hz dX10_voiced_1 0 rfl rfl ?_
  refine z_aload_n hz dX10_voiced_2 0 rfl rfl ?_
  refine z_get (C := RX10) (T := TX10) (N := 29) hz in_X10 (zAt.mt 0 0 rfl rfl) rfl 24 (by decide) q1953 (fun _ h9 => h9) rfl dX10_voiced_3 ?_
  refine z_iconst hz 0 dX10_voiced_6 ki_0 ?_
  refine z_callRD (st2 := [.int (g (152 + 4 * w)), .ref (ad 99)]) hz zKp.mt (zk_V hz (rm := (zRm 0 0 0 0)) (As := [.int (nI w), .int 0]) (rest := [.ref (ad 99)]) 2 q2225 q2227 qs57 q95 q2228 (by decide +kernel) ⟨Nat.le_of_ble_eq_true rfl, Nat.le_of_ble_eq_true rfl⟩ ⟨Nat.le_of_ble_eq_true rfl, Nat.le_of_ble_eq_true rfl⟩ (zRecv (q := (RX10, TX10, 29)) hz (zAt.mt 0 0 rfl rfl) rfl) rfl rfl (Nat.le_of_ble_eq_true rfl) dX10_voiced_7) (mM_way2 ad (upd (upd iv 24 (nI w)) 23 (nI sv.2)) g w 0 (by omega)) (fun H9 L9 h9 => (zPc (zAt.mt 0 0 rfl rfl) h9 (zPc (zAt.mt 1 0 rfl rfl) h9 zP0))) rfl ?_
  refine z_top hK ?_
  refine z_top (y := 2) (by decide) ?_
  refine z_iload_n hz dX10_voiced_10 1 rfl rfl ?_
  refine z_iload_n hz dX10_voiced_11 2 rfl rfl ?_
  refine z_callD (bs2 := [zO (ad 99) 10 (mFs ad (upd (upd iv 24 (nI w)) 23 (nI ((b00 (nI w) x sv).2.2)))), zI (G.2.2.1 0) (ad 0) 602 g, zI (G.2.2.1 0) (ad 22) 40 ((b00 (nI w) x sv).2.1)]) (st2 := [.int ((b00 (nI w) x sv).1)]) hz hA (zk_V hz (rm := (zRm 3 0 0 90)) (As := [.int 2, .int 0, .int x]) (rest := []) 3 q2433 q2435 qs75 q95 q2436 (by decide +kernel) ⟨Nat.le_of_ble_eq_true rfl, Nat.le_of_ble_eq_true rfl⟩ ⟨Nat.le_of_ble_eq_true rfl, Nat.le_of_ble_eq_true rfl⟩ (zRecv (q := (RX10, TX10, 29)) hz (zAt.mt 0 0 rfl rfl) rfl) rfl rfl (Nat.le_of_ble_eq_true rfl) dX10_voiced_12) (mM_f20 ad iv g sv w 2 hw (by decide) hK hs40 x) [0, 1, 2] rfl (by decide) rfl rfl ?_
  exact z_iret hQ hz hr hlk dX10_voiced_15 ⟨rfl, rfl⟩
set_option maxHeartbeats 400000 in
theorem mM_v0_3 {G : zG} (ad : Nat → Nat) (iv g : Nat → Int32) (sv : zV) (w : Nat) (hw : w < 12) (hK : g (152 + 4 * w) = nI 3) (hs40 : sv.2 ≤ 40) (x : Int32) : zMet G yX10_voiced (ws_ yX10_voiced cX10_voiced 3 (some .int)) (zRm 6 0 0 180) [.ref (ad 99), .int 0, .int x] [zO (ad 99) 10 (mFs ad (upd (upd iv 24 (nI w)) 23 (nI sv.2))), zI (G.2.2.1 0) (ad 0) 602 g, zI (G.2.2.1 0) (ad 22) 40 sv.1] (fun v9 b9 => v9 = some (.int (v0 (nI w) 3 x sv).1) ∧ b9 = [zO (ad 99) 10 (mFs ad (upd (upd iv 24 (nI w)) 23 (nI ((v0 (nI w) 3 x sv).2.2)))), zI (G.2.2.1 0) (ad 0) 602 g, zI (G.2.2.1 0) (ad 22) 40 ((v0 (nI w) 3 x sv).2.1)]) := by
  refine zMet.of (by decide +kernel) (Nat.le_of_ble_eq_true rfl) ?_
  intro p e s m args below meth c A hz hA hr hlk hnm9 Q hQ
  refine z_lv (lv' := [(0, .ref (ad 99)), (1, .int 0), (2, .int x)]) [0, 1, 2] rfl ?_
  refine z_aload_n hz dX10_voiced_0 0 rfl rfl ?_
  refine z_aload_n hz dX10_voiced_1 0 rfl rfl ?_
  refine z_aload_n hz dX10_voiced_2 0 rfl rfl ?_
  refine z_get (C := RX10) (T := TX10) (N := 29) hz in_X10 (zAt.mt 0 0 rfl rfl) rfl 24 (by decide) q1953 (fun _ h9 => h9) rfl dX10_voiced_3 ?_
  refine z_iconst hz 0 dX10_voiced_6 ki_0 ?_
  refine z_callRD (st2 := [.int (g (152 + 4 * w)), .ref (ad 99)]) hz zKp.mt (zk_V hz (rm := (zRm 0 0 0 0)) (As := [.int (nI w), .int 0]) (rest := [.ref (ad 99)]) 2 q2225 q2227 qs57 q95 q2228 (by decide +kernel) ⟨Nat.le_of_ble_eq_true rfl, Nat.le_of_ble_eq_true rfl⟩ ⟨Nat.le_of_ble_eq_true rfl, Nat.le_of_ble_eq_true rfl⟩ (zRecv (q := (RX10, TX10, 29)) hz (zAt.mt 0 0 rfl rfl) rfl) rfl rfl (Nat.le_of_ble_eq_true rfl) dX10_voiced_7) (mM_way2 ad (upd (upd iv 24 (nI w)) 23 (nI sv.2)) g w 0 (by omega)) (fun H9 L9 h9 => (zPc (zAt.mt 0 0 rfl rfl) h9 (zPc (zAt.mt 1 0 rfl rfl) h9 zP0))) rfl ?_
  refine z_top hK ?_
  refine z_top (y := 3) (by decide) ?_
  refine z_iload_n hz dX10_voiced_10 1 rfl rfl ?_
  refine z_iload_n hz dX10_voiced_11 2 rfl rfl ?_
  refine z_callD (bs2 := [zO (ad 99) 10 (mFs ad (upd (upd iv 24 (nI w)) 23 (nI ((b30 (nI w) x sv).2.2)))), zI (G.2.2.1 0) (ad 0) 602 g, zI (G.2.2.1 0) (ad 22) 40 ((b30 (nI w) x sv).2.1)]) (st2 := [.int ((b30 (nI w) x sv).1)]) hz hA (zk_V hz (rm := (zRm 5 0 0 150)) (As := [.int 3, .int 0, .int x]) (rest := []) 3 q2433 q2435 qs75 q95 q2436 (by decide +kernel) ⟨Nat.le_of_ble_eq_true rfl, Nat.le_of_ble_eq_true rfl⟩ ⟨Nat.le_of_ble_eq_true rfl, Nat.le_of_ble_eq_true rfl⟩ (zRecv (q := (RX10, TX10, 29)) hz (zAt.mt 0 0 rfl rfl) rfl) rfl rfl (Nat.le_of_ble_eq_true rfl) dX10_voiced_12) (mM_f30 ad iv g sv w 3 hw (by decide) hK hs40 x) [0, 1, 2] rfl (by decide) rfl rfl ?_
  exact z_iret hQ hz hr hlk dX10_voiced_15 ⟨rfl, rfl⟩
set_option maxHeartbeats 400000 in
theorem mM_v0_4 {G : zG} (ad : Nat → Nat) (iv g : Nat → Int32) (sv : zV) (w : Nat) (hw : w < 12) (hK : g (152 + 4 * w) = nI 4) (hs40 : sv.2 ≤ 40) (x : Int32) : zMet G yX10_voiced (ws_ yX10_voiced cX10_voiced 3 (some .int)) (zRm 6 0 0 180) [.ref (ad 99), .int 0, .int x] [zO (ad 99) 10 (mFs ad (upd (upd iv 24 (nI w)) 23 (nI sv.2))), zI (G.2.2.1 0) (ad 0) 602 g, zI (G.2.2.1 0) (ad 22) 40 sv.1] (fun v9 b9 => v9 = some (.int (v0 (nI w) 4 x sv).1) ∧ b9 = [zO (ad 99) 10 (mFs ad (upd (upd iv 24 (nI w)) 23 (nI ((v0 (nI w) 4 x sv).2.2)))), zI (G.2.2.1 0) (ad 0) 602 g, zI (G.2.2.1 0) (ad 22) 40 ((v0 (nI w) 4 x sv).2.1)]) := by
  refine zMet.of (by decide +kernel) (Nat.le_of_ble_eq_true rfl) ?_
  intro p e s m args below meth c A hz hA hr hlk hnm9 Q hQ
  refine z_lv (lv' := [(0, .ref (ad 99)), (1, .int 0), (2, .int x)]) [0, 1, 2] rfl ?_
  refine z_aload_n hz dX10_voiced_0 0 rfl rfl ?_
  refine z_aload_n hz dX10_voiced_1 0 rfl rfl ?_
  refine z_aload_n hz dX10_voiced_2 0 rfl rfl ?_
  refine z_get (C := RX10) (T := TX10) (N := 29) hz in_X10 (zAt.mt 0 0 rfl rfl) rfl 24 (by decide) q1953 (fun _ h9 => h9) rfl dX10_voiced_3 ?_
  refine z_iconst hz 0 dX10_voiced_6 ki_0 ?_
  refine z_callRD (st2 := [.int (g (152 + 4 * w)), .ref (ad 99)]) hz zKp.mt (zk_V hz (rm := (zRm 0 0 0 0)) (As := [.int (nI w), .int 0]) (rest := [.ref (ad 99)]) 2 q2225 q2227 qs57 q95 q2228 (by decide +kernel) ⟨Nat.le_of_ble_eq_true rfl, Nat.le_of_ble_eq_true rfl⟩ ⟨Nat.le_of_ble_eq_true rfl, Nat.le_of_ble_eq_true rfl⟩ (zRecv (q := (RX10, TX10, 29)) hz (zAt.mt 0 0 rfl rfl) rfl) rfl rfl (Nat.le_of_ble_eq_true rfl) dX10_voiced_7) (mM_way2 ad (upd (upd iv 24 (nI w)) 23 (nI sv.2)) g w 0 (by omega)) (fun H9 L9 h9 => (zPc (zAt.mt 0 0 rfl rfl) h9 (zPc (zAt.mt 1 0 rfl rfl) h9 zP0))) rfl ?_
  refine z_top hK ?_
  refine z_top (y := 4) (by decide) ?_
  refine z_iload_n hz dX10_voiced_10 1 rfl rfl ?_
  refine z_iload_n hz dX10_voiced_11 2 rfl rfl ?_
  refine z_callD (bs2 := [zO (ad 99) 10 (mFs ad (upd (upd iv 24 (nI w)) 23 (nI ((b00 (nI w) x sv).2.2)))), zI (G.2.2.1 0) (ad 0) 602 g, zI (G.2.2.1 0) (ad 22) 40 ((b00 (nI w) x sv).2.1)]) (st2 := [.int ((b00 (nI w) x sv).1)]) hz hA (zk_V hz (rm := (zRm 3 0 0 90)) (As := [.int 4, .int 0, .int x]) (rest := []) 3 q2433 q2435 qs75 q95 q2436 (by decide +kernel) ⟨Nat.le_of_ble_eq_true rfl, Nat.le_of_ble_eq_true rfl⟩ ⟨Nat.le_of_ble_eq_true rfl, Nat.le_of_ble_eq_true rfl⟩ (zRecv (q := (RX10, TX10, 29)) hz (zAt.mt 0 0 rfl rfl) rfl) rfl rfl (Nat.le_of_ble_eq_true rfl) dX10_voiced_12) (mM_f40 ad iv g sv w 4 hw (by decide) hK hs40 x) [0, 1, 2] rfl (by decide) rfl rfl ?_
  exact z_iret hQ hz hr hlk dX10_voiced_15 ⟨rfl, rfl⟩
set_option maxHeartbeats 400000 in
theorem mM_v0_5 {G : zG} (ad : Nat → Nat) (iv g : Nat → Int32) (sv : zV) (w : Nat) (hw : w < 12) (hK : g (152 + 4 * w) = nI 5) (hs40 : sv.2 ≤ 40) (x : Int32) : zMet G yX10_voiced (ws_ yX10_voiced cX10_voiced 3 (some .int)) (zRm 6 0 0 180) [.ref (ad 99), .int 0, .int x] [zO (ad 99) 10 (mFs ad (upd (upd iv 24 (nI w)) 23 (nI sv.2))), zI (G.2.2.1 0) (ad 0) 602 g, zI (G.2.2.1 0) (ad 22) 40 sv.1] (fun v9 b9 => v9 = some (.int (v0 (nI w) 5 x sv).1) ∧ b9 = [zO (ad 99) 10 (mFs ad (upd (upd iv 24 (nI w)) 23 (nI ((v0 (nI w) 5 x sv).2.2)))), zI (G.2.2.1 0) (ad 0) 602 g, zI (G.2.2.1 0) (ad 22) 40 ((v0 (nI w) 5 x sv).2.1)]) := by
  refine zMet.of (by decide +kernel) (Nat.le_of_ble_eq_true rfl) ?_
  intro p e s m args below meth c A hz hA hr hlk hnm9 Q hQ
  refine z_lv (lv' := [(0, .ref (ad 99)), (1, .int 0), (2, .int x)]) [0, 1, 2] rfl ?_
  refine z_aload_n hz dX10_voiced_0 0 rfl rfl ?_
  refine z_aload_n hz dX10_voiced_1 0 rfl rfl ?_
  refine z_aload_n hz dX10_voiced_2 0 rfl rfl ?_
  refine z_get (C := RX10) (T := TX10) (N := 29) hz in_X10 (zAt.mt 0 0 rfl rfl) rfl 24 (by decide) q1953 (fun _ h9 => h9) rfl dX10_voiced_3 ?_
  refine z_iconst hz 0 dX10_voiced_6 ki_0 ?_
  refine z_callRD (st2 := [.int (g (152 + 4 * w)), .ref (ad 99)]) hz zKp.mt (zk_V hz (rm := (zRm 0 0 0 0)) (As := [.int (nI w), .int 0]) (rest := [.ref (ad 99)]) 2 q2225 q2227 qs57 q95 q2228 (by decide +kernel) ⟨Nat.le_of_ble_eq_true rfl, Nat.le_of_ble_eq_true rfl⟩ ⟨Nat.le_of_ble_eq_true rfl, Nat.le_of_ble_eq_true rfl⟩ (zRecv (q := (RX10, TX10, 29)) hz (zAt.mt 0 0 rfl rfl) rfl) rfl rfl (Nat.le_of_ble_eq_true rfl) dX10_voiced_7) (mM_way2 ad (upd (upd iv 24 (nI w)) 23 (nI sv.2)) g w 0 (by omega)) (fun H9 L9 h9 => (zPc (zAt.mt 0 0 rfl rfl) h9 (zPc (zAt.mt 1 0 rfl rfl) h9 zP0))) rfl ?_
  refine z_top hK ?_
  refine z_top (y := 5) (by decide) ?_
  refine z_iload_n hz dX10_voiced_10 1 rfl rfl ?_
  refine z_iload_n hz dX10_voiced_11 2 rfl rfl ?_
  refine z_callD (bs2 := [zO (ad 99) 10 (mFs ad (upd (upd iv 24 (nI w)) 23 (nI ((b50 (nI w) x sv).2.2)))), zI (G.2.2.1 0) (ad 0) 602 g, zI (G.2.2.1 0) (ad 22) 40 ((b50 (nI w) x sv).2.1)]) (st2 := [.int ((b50 (nI w) x sv).1)]) hz hA (zk_V hz (rm := (zRm 5 0 0 150)) (As := [.int 5, .int 0, .int x]) (rest := []) 3 q2433 q2435 qs75 q95 q2436 (by decide +kernel) ⟨Nat.le_of_ble_eq_true rfl, Nat.le_of_ble_eq_true rfl⟩ ⟨Nat.le_of_ble_eq_true rfl, Nat.le_of_ble_eq_true rfl⟩ (zRecv (q := (RX10, TX10, 29)) hz (zAt.mt 0 0 rfl rfl) rfl) rfl rfl (Nat.le_of_ble_eq_true rfl) dX10_voiced_12) (mM_f50 ad iv g sv w 5 hw (by decide) hK hs40 x) [0, 1, 2] rfl (by decide) rfl rfl ?_
  exact z_iret hQ hz hr hlk dX10_voiced_15 ⟨rfl, rfl⟩
set_option maxHeartbeats 400000 in
theorem mM_v0_6 {G : zG} (ad : Nat → Nat) (iv g : Nat → Int32) (sv : zV) (w : Nat) (hw : w < 12) (hK : g (152 + 4 * w) = nI 6) (hs40 : sv.2 ≤ 40) (x : Int32) : zMet G yX10_voiced (ws_ yX10_voiced cX10_voiced 3 (some .int)) (zRm 6 0 0 180) [.ref (ad 99), .int 0, .int x] [zO (ad 99) 10 (mFs ad (upd (upd iv 24 (nI w)) 23 (nI sv.2))), zI (G.2.2.1 0) (ad 0) 602 g, zI (G.2.2.1 0) (ad 22) 40 sv.1] (fun v9 b9 => v9 = some (.int (v0 (nI w) 6 x sv).1) ∧ b9 = [zO (ad 99) 10 (mFs ad (upd (upd iv 24 (nI w)) 23 (nI ((v0 (nI w) 6 x sv).2.2)))), zI (G.2.2.1 0) (ad 0) 602 g, zI (G.2.2.1 0) (ad 22) 40 ((v0 (nI w) 6 x sv).2.1)]) := by
  refine zMet.of (by decide +kernel) (Nat.le_of_ble_eq_true rfl) ?_
  intro p e s m args below meth c A hz hA hr hlk hnm9 Q hQ
  refine z_lv (lv' := [(0, .ref (ad 99)), (1, .int 0), (2, .int x)]) [0, 1, 2] rfl ?_
  refine z_aload_n hz dX10_voiced_0 0 rfl rfl ?_
  refine z_aload_n hz dX10_voiced_1 0 rfl rfl ?_
  refine z_aload_n hz dX10_voiced_2 0 rfl rfl ?_
  refine z_get (C := RX10) (T := TX10) (N := 29) hz in_X10 (zAt.mt 0 0 rfl rfl) rfl 24 (by decide) q1953 (fun _ h9 => h9) rfl dX10_voiced_3 ?_
  refine z_iconst hz 0 dX10_voiced_6 ki_0 ?_
  refine z_callRD (st2 := [.int (g (152 + 4 * w)), .ref (ad 99)]) hz zKp.mt (zk_V hz (rm := (zRm 0 0 0 0)) (As := [.int (nI w), .int 0]) (rest := [.ref (ad 99)]) 2 q2225 q2227 qs57 q95 q2228 (by decide +kernel) ⟨Nat.le_of_ble_eq_true rfl, Nat.le_of_ble_eq_true rfl⟩ ⟨Nat.le_of_ble_eq_true rfl, Nat.le_of_ble_eq_true rfl⟩ (zRecv (q := (RX10, TX10, 29)) hz (zAt.mt 0 0 rfl rfl) rfl) rfl rfl (Nat.le_of_ble_eq_true rfl) dX10_voiced_7) (mM_way2 ad (upd (upd iv 24 (nI w)) 23 (nI sv.2)) g w 0 (by omega)) (fun H9 L9 h9 => (zPc (zAt.mt 0 0 rfl rfl) h9 (zPc (zAt.mt 1 0 rfl rfl) h9 zP0))) rfl ?_
  refine z_top hK ?_
  refine z_top (y := 6) (by decide) ?_
  refine z_iload_n hz dX10_voiced_10 1 rfl rfl ?_
  refine z_iload_n hz dX10_voiced_11 2 rfl rfl ?_
  refine z_callD (bs2 := [zO (ad 99) 10 (mFs ad (upd (upd iv 24 (nI w)) 23 (nI ((b00 (nI w) x sv).2.2)))), zI (G.2.2.1 0) (ad 0) 602 g, zI (G.2.2.1 0) (ad 22) 40 ((b00 (nI w) x sv).2.1)]) (st2 := [.int ((b00 (nI w) x sv).1)]) hz hA (zk_V hz (rm := (zRm 3 0 0 90)) (As := [.int 6, .int 0, .int x]) (rest := []) 3 q2433 q2435 qs75 q95 q2436 (by decide +kernel) ⟨Nat.le_of_ble_eq_true rfl, Nat.le_of_ble_eq_true rfl⟩ ⟨Nat.le_of_ble_eq_true rfl, Nat.le_of_ble_eq_true rfl⟩ (zRecv (q := (RX10, TX10, 29)) hz (zAt.mt 0 0 rfl rfl) rfl) rfl rfl (Nat.le_of_ble_eq_true rfl) dX10_voiced_12) (mM_f60 ad iv g sv w 6 hw (by decide) hK hs40 x) [0, 1, 2] rfl (by decide) rfl rfl ?_
  exact z_iret hQ hz hr hlk dX10_voiced_15 ⟨rfl, rfl⟩
set_option maxHeartbeats 400000 in
theorem mM_v0_7 {G : zG} (ad : Nat → Nat) (iv g : Nat → Int32) (sv : zV) (w : Nat) (hw : w < 12) (hK : g (152 + 4 * w) = nI 7) (hs40 : sv.2 ≤ 40) (x : Int32) : zMet G yX10_voiced (ws_ yX10_voiced cX10_voiced 3 (some .int)) (zRm 6 0 0 180) [.ref (ad 99), .int 0, .int x] [zO (ad 99) 10 (mFs ad (upd (upd iv 24 (nI w)) 23 (nI sv.2))), zI (G.2.2.1 0) (ad 0) 602 g, zI (G.2.2.1 0) (ad 22) 40 sv.1] (fun v9 b9 => v9 = some (.int (v0 (nI w) 7 x sv).1) ∧ b9 = [zO (ad 99) 10 (mFs ad (upd (upd iv 24 (nI w)) 23 (nI ((v0 (nI w) 7 x sv).2.2)))), zI (G.2.2.1 0) (ad 0) 602 g, zI (G.2.2.1 0) (ad 22) 40 ((v0 (nI w) 7 x sv).2.1)]) := by
  refine zMet.of (by decide +kernel) (Nat.le_of_ble_eq_true rfl) ?_
  intro p e s m args below meth c A hz hA hr hlk hnm9 Q hQ
  refine z_lv (lv' := [(0, .ref (ad 99)), (1, .int 0), (2, .int x)]) [0, 1, 2] rfl ?_
  refine z_aload_n hz dX10_voiced_0 0 rfl rfl ?_
  refine z_aload_n hz dX10_voiced_1 0 rfl rfl ?_
  refine z_aload_n hz dX10_voiced_2 0 rfl rfl ?_
  refine z_get (C := RX10) (T := TX10) (N := 29) hz in_X10 (zAt.mt 0 0 rfl rfl) rfl 24 (by decide) q1953 (fun _ h9 => h9) rfl dX10_voiced_3 ?_
  refine z_iconst hz 0 dX10_voiced_6 ki_0 ?_
  refine z_callRD (st2 := [.int (g (152 + 4 * w)), .ref (ad 99)]) hz zKp.mt (zk_V hz (rm := (zRm 0 0 0 0)) (As := [.int (nI w), .int 0]) (rest := [.ref (ad 99)]) 2 q2225 q2227 qs57 q95 q2228 (by decide +kernel) ⟨Nat.le_of_ble_eq_true rfl, Nat.le_of_ble_eq_true rfl⟩ ⟨Nat.le_of_ble_eq_true rfl, Nat.le_of_ble_eq_true rfl⟩ (zRecv (q := (RX10, TX10, 29)) hz (zAt.mt 0 0 rfl rfl) rfl) rfl rfl (Nat.le_of_ble_eq_true rfl) dX10_voiced_7) (mM_way2 ad (upd (upd iv 24 (nI w)) 23 (nI sv.2)) g w 0 (by omega)) (fun H9 L9 h9 => (zPc (zAt.mt 0 0 rfl rfl) h9 (zPc (zAt.mt 1 0 rfl rfl) h9 zP0))) rfl ?_
  refine z_top hK ?_
  refine z_top (y := 7) (by decide) ?_
  refine z_iload_n hz dX10_voiced_10 1 rfl rfl ?_
  refine z_iload_n hz dX10_voiced_11 2 rfl rfl ?_
  refine z_callD (bs2 := [zO (ad 99) 10 (mFs ad (upd (upd iv 24 (nI w)) 23 (nI ((b50 (nI w) x sv).2.2)))), zI (G.2.2.1 0) (ad 0) 602 g, zI (G.2.2.1 0) (ad 22) 40 ((b50 (nI w) x sv).2.1)]) (st2 := [.int ((b50 (nI w) x sv).1)]) hz hA (zk_V hz (rm := (zRm 5 0 0 150)) (As := [.int 7, .int 0, .int x]) (rest := []) 3 q2433 q2435 qs75 q95 q2436 (by decide +kernel) ⟨Nat.le_of_ble_eq_true rfl, Nat.le_of_ble_eq_true rfl⟩ ⟨Nat.le_of_ble_eq_true rfl, Nat.le_of_ble_eq_true rfl⟩ (zRecv (q := (RX10, TX10, 29)) hz (zAt.mt 0 0 rfl rfl) rfl) rfl rfl (Nat.le_of_ble_eq_true rfl) dX10_voiced_12) (mM_f70 ad iv g sv w 7 hw (by decide) hK hs40 x) [0, 1, 2] rfl (by decide) rfl rfl ?_
  exact z_iret hQ hz hr hlk dX10_voiced_15 ⟨rfl, rfl⟩
theorem mM_v0 {G : zG} (ad : Nat → Nat) (iv g : Nat → Int32) (sv : zV) (w K : Nat) (hw : w < 12) (hK8 : K < 8) (hK : g (152 + 4 * w) = nI K) (hs40 : sv.2 ≤ 40) (x : Int32) : zMet G yX10_voiced (ws_ yX10_voiced cX10_voiced 3 (some .int)) (zRm 6 0 0 180) [.ref (ad 99), .int 0, .int x] [zO (ad 99) 10 (mFs ad (upd (upd iv 24 (nI w)) 23 (nI sv.2))), zI (G.2.2.1 0) (ad 0) 602 g, zI (G.2.2.1 0) (ad 22) 40 sv.1] (fun v9 b9 => v9 = some (.int (v0 (nI w) K x sv).1) ∧ b9 = [zO (ad 99) 10 (mFs ad (upd (upd iv 24 (nI w)) 23 (nI ((v0 (nI w) K x sv).2.2)))), zI (G.2.2.1 0) (ad 0) 602 g, zI (G.2.2.1 0) (ad 22) 40 ((v0 (nI w) K x sv).2.1)]) := by
  have h8 : K = 0 ∨ K = 1 ∨ K = 2 ∨ K = 3 ∨ K = 4 ∨ K = 5 ∨ K = 6 ∨ K = 7 := by omega
  rcases h8 with e8 | e8 | e8 | e8 | e8 | e8 | e8 | e8 <;> subst e8
  · exact mM_v0_0 ad iv g sv w hw hK hs40 x
  · exact mM_v0_1 ad iv g sv w hw hK hs40 x
  · exact mM_v0_2 ad iv g sv w hw hK hs40 x
  · exact mM_v0_3 ad iv g sv w hw hK hs40 x
  · exact mM_v0_4 ad iv g sv w hw hK hs40 x
  · exact mM_v0_5 ad iv g sv w hw hK hs40 x
  · exact mM_v0_6 ad iv g sv w hw hK hs40 x
  · exact mM_v0_7 ad iv g sv w hw hK hs40 x
set_option maxHeartbeats 400000 in
theorem mM_b02 {G : zG} (ad : Nat → Nat) (iv g : Nat → Int32) (sv : zV) (w K : Nat) (hw : w < 12) (hK8 : K < 8) (hK : g (152 + 4 * w) = nI K) (hs40 : sv.2 ≤ 40) (x : Int32) : zMet G yX10_body (ws_ yX10_body cX10_body 5 (some .int)) (zRm 2 0 0 60) [.ref (ad 99), .int 0, .int 2, .int x] [zO (ad 99) 10 (mFs ad (upd (upd iv 24 (nI w)) 23 (nI sv.2))), zI (G.2.2.1 0) (ad 0) 602 g, zI (G.2.2.1 0) (ad 22) 40 sv.1] (fun v9 b9 => v9 = some (.int (b02 (g (152 + 4 * w + 1)) x sv).1) ∧ b9 = [zO (ad 99) 10 (mFs ad (upd (upd iv 24 (nI w)) 23 (nI ((b02 (g (152 + 4 * w + 1)) x sv).2.2)))), zI (G.2.2.1 0) (ad 0) 602 g, zI (G.2.2.1 0) (ad 22) 40 ((b02 (g (152 + 4 * w + 1)) x sv).2.1)]) := by
  refine zMet.of (by decide +kernel) (Nat.le_of_ble_eq_true rfl) ?_
  intro p e s m args below meth c A hz hA hr hlk hnm9 Q hQ
  refine z_lv (lv' := [(0, .ref (ad 99)), (1, .int 0), (2, .int 2), (3, .int x)]) [0, 1, 2, 3] rfl ?_
  refine z_iconst hz 4 dX10_body_0 ki_4 ?_
  refine z_iload_n hz dX10_body_1 1 rfl rfl ?_
  refine z_imul hz dX10_body_2 ?_
  refine z_top (y := 0) (by decide) ?_
  refine z_iload_n hz dX10_body_3 2 rfl rfl ?_
  refine z_iadd hz dX10_body_4 ?_
  refine z_top (y := 2) (by decide) ?_
  refine z_tabIn hz 155 160 dX10_body_5 (by decide) (by decide) (by decide) (by decide) ?_
  refine z_aload_n hz dX10_body_160 0 rfl rfl ?_
  refine z_bipush hz 12 dX10_body_161 kb_12 ?_
  refine z_callD (bs2 := [zO (ad 99) 10 (mFs ad (upd (upd iv 24 (nI w)) 23 (nI ((bgF 12 sv).2)))), zI (G.2.2.1 0) (ad 0) 602 g, zI (G.2.2.1 0) (ad 22) 40 ((bgF 12 sv).1)]) (st2 := []) hz hA (zk_V hz (rm := (zRm 0 0 0 0)) (As := [.int 12]) (rest := []) 1 q2444 q2446 qs77 q95 q2447 (by decide +kernel) ⟨Nat.le_of_ble_eq_true rfl, Nat.le_of_ble_eq_true rfl⟩ ⟨Nat.le_of_ble_eq_true rfl, Nat.le_of_ble_eq_true rfl⟩ (zRecv (q := (RX10, TX10, 29)) hz (zAt.mt 0 0 rfl rfl) rfl) rfl rfl (Nat.le_of_ble_eq_true rfl) dX10_body_163) (mM_began ad iv sv w 12 hs40) [0, 2] rfl (by decide) rfl rfl ?_
  refine z_iload_n hz dX10_body_166 3 rfl rfl ?_
  refine z_aload_n hz dX10_body_167 0 rfl rfl ?_
  refine z_aload_n hz dX10_body_168 0 rfl rfl ?_
  refine z_get (C := RX10) (T := TX10) (N := 29) hz in_X10 (zAt.mt 0 0 rfl rfl) rfl 24 (by decide) q1953 (fun _ h9 => h9) rfl dX10_body_169 ?_
  refine z_iconst hz 1 dX10_body_172 ki_1 ?_
  refine z_callRD (st2 := [.int (g (152 + 4 * w + 1)), .int x]) hz zKp.mt (zk_V hz (rm := (zRm 0 0 0 0)) (As := [.int (nI w), .int 1]) (rest := [.int x]) 2 q2225 q2227 qs57 q95 q2228 (by decide +kernel) ⟨Nat.le_of_ble_eq_true rfl, Nat.le_of_ble_eq_true rfl⟩ ⟨Nat.le_of_ble_eq_true rfl, Nat.le_of_ble_eq_true rfl⟩ (zRecv (q := (RX10, TX10, 29)) hz (zAt.mt 0 0 rfl rfl) rfl) rfl rfl (Nat.le_of_ble_eq_true rfl) dX10_body_173) (mM_way2 ad (upd (upd iv 24 (nI w)) 23 (nI ((bgF 12 sv).2))) g w 1 (by omega)) (fun H9 L9 h9 => (zPc (zAt.mt 0 0 rfl rfl) h9 (zPc (zAt.mt 1 0 rfl rfl) h9 zP0))) rfl ?_
  refine z_isub hz dX10_body_176 ?_
  exact z_iret hQ hz hr hlk dX10_body_177 ⟨rfl, rfl⟩
set_option maxHeartbeats 400000 in
theorem mM_f02 {G : zG} (ad : Nat → Nat) (iv g : Nat → Int32) (sv : zV) (w K : Nat) (hw : w < 12) (hK8 : K < 8) (hK : g (152 + 4 * w) = nI K) (hs40 : sv.2 ≤ 40) (x : Int32) : zMet G yX10_bodyFrom (ws_ yX10_bodyFrom cX10_bodyFrom 5 (some .int)) (zRm 3 0 0 90) [.ref (ad 99), .int 0, .int 2, .int x] [zO (ad 99) 10 (mFs ad (upd (upd iv 24 (nI w)) 23 (nI sv.2))), zI (G.2.2.1 0) (ad 0) 602 g, zI (G.2.2.1 0) (ad 22) 40 sv.1] (fun v9 b9 => v9 = some (.int (b02 (g (152 + 4 * w + 1)) x sv).1) ∧ b9 = [zO (ad 99) 10 (mFs ad (upd (upd iv 24 (nI w)) 23 (nI ((b02 (g (152 + 4 * w + 1)) x sv).2.2)))), zI (G.2.2.1 0) (ad 0) 602 g, zI (G.2.2.1 0) (ad 22) 40 ((b02 (g (152 + 4 * w + 1)) x sv).2.1)]) := by
  refine zMet.of (by decide +kernel) (Nat.le_of_ble_eq_true rfl) ?_
  intro p e s m args below meth c A hz hA hr hlk hnm9 Q hQ
  refine z_lv (lv' := [(0, .ref (ad 99)), (1, .int 0), (2, .int 2), (3, .int x)]) [0, 1, 2, 3] rfl ?_
  refine z_iload_n hz dX10_bodyFrom_0 1 rfl rfl ?_
  refine z_istore (lv' := [(0, .ref (ad 99)), (1, .int 0), (2, .int 2), (3, .int x), (4, .int 0)]) hz [1, 2, 3, 4, 0] dX10_bodyFrom_1 (by decide) rfl ?_
  refine z_iload hz dX10_bodyFrom_3 4 rfl ?_
  refine z_iload_n hz dX10_bodyFrom_5 2 rfl rfl ?_
  refine z_callRD (st2 := [.int (zB (ownP 0 2))]) hz zKp.mt (zk_S hz (rm := (zRm 0 0 0 0)) (As := [.int 0, .int 2]) (rest := []) 2 q2437 q2438 q95 q2439 (by decide +kernel) ⟨Nat.le_of_ble_eq_true rfl, Nat.le_of_ble_eq_true rfl⟩ ⟨Nat.le_of_ble_eq_true rfl, Nat.le_of_ble_eq_true rfl⟩ rfl rfl (Nat.le_of_ble_eq_true rfl) dX10_bodyFrom_6) (mM_hasOwn 0 2 (by decide) (by decide)) (fun _ _ _ => zP0) rfl ?_
  refine z_ifB_neT hz 22 dX10_bodyFrom_9 (by decide) (by decide) ?_
  refine z_aload_n hz dX10_bodyFrom_22 0 rfl rfl ?_
  refine z_iload hz dX10_bodyFrom_23 4 rfl ?_
  refine z_iload_n hz dX10_bodyFrom_25 2 rfl rfl ?_
  refine z_iload_n hz dX10_bodyFrom_26 3 rfl rfl ?_
  refine z_callD (bs2 := [zO (ad 99) 10 (mFs ad (upd (upd iv 24 (nI w)) 23 (nI ((b02 (g (152 + 4 * w + 1)) x sv).2.2)))), zI (G.2.2.1 0) (ad 0) 602 g, zI (G.2.2.1 0) (ad 22) 40 ((b02 (g (152 + 4 * w + 1)) x sv).2.1)]) (st2 := [.int ((b02 (g (152 + 4 * w + 1)) x sv).1)]) hz hA (zk_V hz (rm := (zRm 2 0 0 60)) (As := [.int 0, .int 2, .int x]) (rest := []) 3 q2440 q2442 qs76 q95 q2443 (by decide +kernel) ⟨Nat.le_of_ble_eq_true rfl, Nat.le_of_ble_eq_true rfl⟩ ⟨Nat.le_of_ble_eq_true rfl, Nat.le_of_ble_eq_true rfl⟩ (zRecv (q := (RX10, TX10, 29)) hz (zAt.mt 0 0 rfl rfl) rfl) rfl rfl (Nat.le_of_ble_eq_true rfl) dX10_bodyFrom_27) (mM_b02 ad iv g sv w K hw hK8 hK hs40 x) [0, 1, 2] rfl (by decide) rfl rfl ?_
  exact z_iret hQ hz hr hlk dX10_bodyFrom_30 ⟨rfl, rfl⟩
set_option maxHeartbeats 400000 in
theorem mM_b22 {G : zG} (ad : Nat → Nat) (iv g : Nat → Int32) (sv : zV) (w K : Nat) (hw : w < 12) (hK8 : K < 8) (hK : g (152 + 4 * w) = nI K) (hs40 : sv.2 ≤ 40) (x : Int32) : zMet G yX10_body (ws_ yX10_body cX10_body 5 (some .int)) (zRm 4 0 0 120) [.ref (ad 99), .int 2, .int 2, .int x] [zO (ad 99) 10 (mFs ad (upd (upd iv 24 (nI w)) 23 (nI sv.2))), zI (G.2.2.1 0) (ad 0) 602 g, zI (G.2.2.1 0) (ad 22) 40 sv.1] (fun v9 b9 => v9 = some (.int (b22 (g (152 + 4 * w + 1)) x sv).1) ∧ b9 = [zO (ad 99) 10 (mFs ad (upd (upd iv 24 (nI w)) 23 (nI ((b22 (g (152 + 4 * w + 1)) x sv).2.2)))), zI (G.2.2.1 0) (ad 0) 602 g, zI (G.2.2.1 0) (ad 22) 40 ((b22 (g (152 + 4 * w + 1)) x sv).2.1)]) := by
  refine zMet.of (by decide +kernel) (Nat.le_of_ble_eq_true rfl) ?_
  intro p e s m args below meth c A hz hA hr hlk hnm9 Q hQ
  refine z_lv (lv' := [(0, .ref (ad 99)), (1, .int 2), (2, .int 2), (3, .int x)]) [0, 1, 2, 3] rfl ?_
  refine z_iconst hz 4 dX10_body_0 ki_4 ?_
  refine z_iload_n hz dX10_body_1 1 rfl rfl ?_
  refine z_imul hz dX10_body_2 ?_
  refine z_top (y := 8) (by decide) ?_
  refine z_iload_n hz dX10_body_3 2 rfl rfl ?_
  refine z_iadd hz dX10_body_4 ?_
  refine z_top (y := 10) (by decide) ?_
  refine z_tabIn hz 222 227 dX10_body_5 (by decide) (by decide) (by decide) (by decide) ?_
  refine z_aload_n hz dX10_body_227 0 rfl rfl ?_
  refine z_bipush hz 30 dX10_body_228 kb_30 ?_
  refine z_callD (bs2 := [zO (ad 99) 10 (mFs ad (upd (upd iv 24 (nI w)) 23 (nI ((bgF 30 sv).2)))), zI (G.2.2.1 0) (ad 0) 602 g, zI (G.2.2.1 0) (ad 22) 40 ((bgF 30 sv).1)]) (st2 := []) hz hA (zk_V hz (rm := (zRm 0 0 0 0)) (As := [.int 30]) (rest := []) 1 q2444 q2446 qs77 q95 q2447 (by decide +kernel) ⟨Nat.le_of_ble_eq_true rfl, Nat.le_of_ble_eq_true rfl⟩ ⟨Nat.le_of_ble_eq_true rfl, Nat.le_of_ble_eq_true rfl⟩ (zRecv (q := (RX10, TX10, 29)) hz (zAt.mt 0 0 rfl rfl) rfl) rfl rfl (Nat.le_of_ble_eq_true rfl) dX10_body_230) (mM_began ad iv sv w 30 hs40) [0, 2] rfl (by decide) rfl rfl ?_
  refine z_aload_n hz dX10_body_233 0 rfl rfl ?_
  refine z_iconst hz 0 dX10_body_234 ki_0 ?_
  refine z_iconst hz 2 dX10_body_235 ki_2 ?_
  refine z_iload_n hz dX10_body_236 3 rfl rfl ?_
  refine z_callD (bs2 := [zO (ad 99) 10 (mFs ad (upd (upd iv 24 (nI w)) 23 (nI ((b02 (g (152 + 4 * w + 1)) x (bgF 30 sv)).2.2)))), zI (G.2.2.1 0) (ad 0) 602 g, zI (G.2.2.1 0) (ad 22) 40 ((b02 (g (152 + 4 * w + 1)) x (bgF 30 sv)).2.1)]) (st2 := [.int ((b02 (g (152 + 4 * w + 1)) x (bgF 30 sv)).1)]) hz hA (zk_V hz (rm := (zRm 3 0 0 90)) (As := [.int 0, .int 2, .int x]) (rest := []) 3 q2433 q2435 qs75 q95 q2436 (by decide +kernel) ⟨Nat.le_of_ble_eq_true rfl, Nat.le_of_ble_eq_true rfl⟩ ⟨Nat.le_of_ble_eq_true rfl, Nat.le_of_ble_eq_true rfl⟩ (zRecv (q := (RX10, TX10, 29)) hz (zAt.mt 0 0 rfl rfl) rfl) rfl rfl (Nat.le_of_ble_eq_true rfl) dX10_body_237) (mM_f02 ad iv g (bgF 30 sv) w K hw hK8 hK (bgF_le hs40) x) [0, 1, 2] rfl (by decide) rfl rfl ?_
  refine z_iconst hz 3 dX10_body_240 ki_3 ?_
  refine z_imul hz dX10_body_241 ?_
  exact z_iret hQ hz hr hlk dX10_body_242 ⟨rfl, rfl⟩
set_option maxHeartbeats 400000 in
theorem mM_b52 {G : zG} (ad : Nat → Nat) (iv g : Nat → Int32) (sv : zV) (w K : Nat) (hw : w < 12) (hK8 : K < 8) (hK : g (152 + 4 * w) = nI K) (hs40 : sv.2 ≤ 40) (x : Int32) : zMet G yX10_body (ws_ yX10_body cX10_body 5 (some .int)) (zRm 4 0 0 120) [.ref (ad 99), .int 5, .int 2, .int x] [zO (ad 99) 10 (mFs ad (upd (upd iv 24 (nI w)) 23 (nI sv.2))), zI (G.2.2.1 0) (ad 0) 602 g, zI (G.2.2.1 0) (ad 22) 40 sv.1] (fun v9 b9 => v9 = some (.int (b52 (nI w) (g (152 + 4 * w + 1)) x sv).1) ∧ b9 = [zO (ad 99) 10 (mFs ad (upd (upd iv 24 (nI w)) 23 (nI ((b52 (nI w) (g (152 + 4 * w + 1)) x sv).2.2)))), zI (G.2.2.1 0) (ad 0) 602 g, zI (G.2.2.1 0) (ad 22) 40 ((b52 (nI w) (g (152 + 4 * w + 1)) x sv).2.1)]) := by
  refine zMet.of (by decide +kernel) (Nat.le_of_ble_eq_true rfl) ?_
  intro p e s m args below meth c A hz hA hr hlk hnm9 Q hQ
  refine z_lv (lv' := [(0, .ref (ad 99)), (1, .int 5), (2, .int 2), (3, .int x)]) [0, 1, 2, 3] rfl ?_
  refine z_iconst hz 4 dX10_body_0 ki_4 ?_
  refine z_iload_n hz dX10_body_1 1 rfl rfl ?_
  refine z_imul hz dX10_body_2 ?_
  refine z_top (y := 20) (by decide) ?_
  refine z_iload_n hz dX10_body_3 2 rfl rfl ?_
  refine z_iadd hz dX10_body_4 ?_
  refine z_top (y := 22) (by decide) ?_
  refine z_tabIn hz 310 315 dX10_body_5 (by decide) (by decide) (by decide) (by decide) ?_
  refine z_aload_n hz dX10_body_315 0 rfl rfl ?_
  refine z_bipush hz 61 dX10_body_316 kb_61 ?_
  refine z_callD (bs2 := [zO (ad 99) 10 (mFs ad (upd (upd iv 24 (nI w)) 23 (nI ((bgF 61 sv).2)))), zI (G.2.2.1 0) (ad 0) 602 g, zI (G.2.2.1 0) (ad 22) 40 ((bgF 61 sv).1)]) (st2 := []) hz hA (zk_V hz (rm := (zRm 0 0 0 0)) (As := [.int 61]) (rest := []) 1 q2444 q2446 qs77 q95 q2447 (by decide +kernel) ⟨Nat.le_of_ble_eq_true rfl, Nat.le_of_ble_eq_true rfl⟩ ⟨Nat.le_of_ble_eq_true rfl, Nat.le_of_ble_eq_true rfl⟩ (zRecv (q := (RX10, TX10, 29)) hz (zAt.mt 0 0 rfl rfl) rfl) rfl rfl (Nat.le_of_ble_eq_true rfl) dX10_body_318) (mM_began ad iv sv w 61 hs40) [0, 2] rfl (by decide) rfl rfl ?_
  refine z_aload_n hz dX10_body_321 0 rfl rfl ?_
  refine z_iconst hz 0 dX10_body_322 ki_0 ?_
  refine z_iconst hz 2 dX10_body_323 ki_2 ?_
  refine z_iload_n hz dX10_body_324 3 rfl rfl ?_
  refine z_callD (bs2 := [zO (ad 99) 10 (mFs ad (upd (upd iv 24 (nI w)) 23 (nI ((b02 (g (152 + 4 * w + 1)) x (bgF 61 sv)).2.2)))), zI (G.2.2.1 0) (ad 0) 602 g, zI (G.2.2.1 0) (ad 22) 40 ((b02 (g (152 + 4 * w + 1)) x (bgF 61 sv)).2.1)]) (st2 := [.int ((b02 (g (152 + 4 * w + 1)) x (bgF 61 sv)).1)]) hz hA (zk_V hz (rm := (zRm 3 0 0 90)) (As := [.int 0, .int 2, .int x]) (rest := []) 3 q2433 q2435 qs75 q95 q2436 (by decide +kernel) ⟨Nat.le_of_ble_eq_true rfl, Nat.le_of_ble_eq_true rfl⟩ ⟨Nat.le_of_ble_eq_true rfl, Nat.le_of_ble_eq_true rfl⟩ (zRecv (q := (RX10, TX10, 29)) hz (zAt.mt 0 0 rfl rfl) rfl) rfl rfl (Nat.le_of_ble_eq_true rfl) dX10_body_325) (mM_f02 ad iv g (bgF 61 sv) w K hw hK8 hK (bgF_le hs40) x) [0, 1, 2] rfl (by decide) rfl rfl ?_
  refine z_aload_n hz dX10_body_328 0 rfl rfl ?_
  refine z_get (C := RX10) (T := TX10) (N := 29) hz in_X10 (zAt.mt 0 0 rfl rfl) rfl 24 (by decide) q1953 (fun _ h9 => h9) rfl dX10_body_329 ?_
  refine z_iadd hz dX10_body_332 ?_
  exact z_iret hQ hz hr hlk dX10_body_333 ⟨rfl, rfl⟩
set_option maxHeartbeats 400000 in
theorem mM_f52 {G : zG} (ad : Nat → Nat) (iv g : Nat → Int32) (sv : zV) (w K : Nat) (hw : w < 12) (hK8 : K < 8) (hK : g (152 + 4 * w) = nI K) (hs40 : sv.2 ≤ 40) (x : Int32) : zMet G yX10_bodyFrom (ws_ yX10_bodyFrom cX10_bodyFrom 5 (some .int)) (zRm 5 0 0 150) [.ref (ad 99), .int 5, .int 2, .int x] [zO (ad 99) 10 (mFs ad (upd (upd iv 24 (nI w)) 23 (nI sv.2))), zI (G.2.2.1 0) (ad 0) 602 g, zI (G.2.2.1 0) (ad 22) 40 sv.1] (fun v9 b9 => v9 = some (.int (b52 (nI w) (g (152 + 4 * w + 1)) x sv).1) ∧ b9 = [zO (ad 99) 10 (mFs ad (upd (upd iv 24 (nI w)) 23 (nI ((b52 (nI w) (g (152 + 4 * w + 1)) x sv).2.2)))), zI (G.2.2.1 0) (ad 0) 602 g, zI (G.2.2.1 0) (ad 22) 40 ((b52 (nI w) (g (152 + 4 * w + 1)) x sv).2.1)]) := by
  refine zMet.of (by decide +kernel) (Nat.le_of_ble_eq_true rfl) ?_
  intro p e s m args below meth c A hz hA hr hlk hnm9 Q hQ
  refine z_lv (lv' := [(0, .ref (ad 99)), (1, .int 5), (2, .int 2), (3, .int x)]) [0, 1, 2, 3] rfl ?_
  refine z_iload_n hz dX10_bodyFrom_0 1 rfl rfl ?_
  refine z_istore (lv' := [(0, .ref (ad 99)), (1, .int 5), (2, .int 2), (3, .int x), (4, .int 5)]) hz [1, 2, 3, 4, 0] dX10_bodyFrom_1 (by decide) rfl ?_
  refine z_iload hz dX10_bodyFrom_3 4 rfl ?_
  refine z_iload_n hz dX10_bodyFrom_5 2 rfl rfl ?_
  refine z_callRD (st2 := [.int (zB (ownP 5 2))]) hz zKp.mt (zk_S hz (rm := (zRm 0 0 0 0)) (As := [.int 5, .int 2]) (rest := []) 2 q2437 q2438 q95 q2439 (by decide +kernel) ⟨Nat.le_of_ble_eq_true rfl, Nat.le_of_ble_eq_true rfl⟩ ⟨Nat.le_of_ble_eq_true rfl, Nat.le_of_ble_eq_true rfl⟩ rfl rfl (Nat.le_of_ble_eq_true rfl) dX10_bodyFrom_6) (mM_hasOwn 5 2 (by decide) (by decide)) (fun _ _ _ => zP0) rfl ?_
  refine z_ifB_neT hz 22 dX10_bodyFrom_9 (by decide) (by decide) ?_
  refine z_aload_n hz dX10_bodyFrom_22 0 rfl rfl ?_
  refine z_iload hz dX10_bodyFrom_23 4 rfl ?_
  refine z_iload_n hz dX10_bodyFrom_25 2 rfl rfl ?_
  refine z_iload_n hz dX10_bodyFrom_26 3 rfl rfl ?_
  refine z_callD (bs2 := [zO (ad 99) 10 (mFs ad (upd (upd iv 24 (nI w)) 23 (nI ((b52 (nI w) (g (152 + 4 * w + 1)) x sv).2.2)))), zI (G.2.2.1 0) (ad 0) 602 g, zI (G.2.2.1 0) (ad 22) 40 ((b52 (nI w) (g (152 + 4 * w + 1)) x sv).2.1)]) (st2 := [.int ((b52 (nI w) (g (152 + 4 * w + 1)) x sv).1)]) hz hA (zk_V hz (rm := (zRm 4 0 0 120)) (As := [.int 5, .int 2, .int x]) (rest := []) 3 q2440 q2442 qs76 q95 q2443 (by decide +kernel) ⟨Nat.le_of_ble_eq_true rfl, Nat.le_of_ble_eq_true rfl⟩ ⟨Nat.le_of_ble_eq_true rfl, Nat.le_of_ble_eq_true rfl⟩ (zRecv (q := (RX10, TX10, 29)) hz (zAt.mt 0 0 rfl rfl) rfl) rfl rfl (Nat.le_of_ble_eq_true rfl) dX10_bodyFrom_27) (mM_b52 ad iv g sv w K hw hK8 hK hs40 x) [0, 1, 2] rfl (by decide) rfl rfl ?_
  exact z_iret hQ hz hr hlk dX10_bodyFrom_30 ⟨rfl, rfl⟩
set_option maxHeartbeats 400000 in
theorem mM_b72 {G : zG} (ad : Nat → Nat) (iv g : Nat → Int32) (sv : zV) (w K : Nat) (hw : w < 12) (hK8 : K < 8) (hK : g (152 + 4 * w) = nI K) (hs40 : sv.2 ≤ 40) (x : Int32) : zMet G yX10_body (ws_ yX10_body cX10_body 5 (some .int)) (zRm 7 0 0 210) [.ref (ad 99), .int 7, .int 2, .int x] [zO (ad 99) 10 (mFs ad (upd (upd iv 24 (nI w)) 23 (nI sv.2))), zI (G.2.2.1 0) (ad 0) 602 g, zI (G.2.2.1 0) (ad 22) 40 sv.1] (fun v9 b9 => v9 = some (.int (b72 (nI w) (g (152 + 4 * w + 1)) K x sv).1) ∧ b9 = [zO (ad 99) 10 (mFs ad (upd (upd iv 24 (nI w)) 23 (nI ((b72 (nI w) (g (152 + 4 * w + 1)) K x sv).2.2)))), zI (G.2.2.1 0) (ad 0) 602 g, zI (G.2.2.1 0) (ad 22) 40 ((b72 (nI w) (g (152 + 4 * w + 1)) K x sv).2.1)]) := by
  refine zMet.of (by decide +kernel) (Nat.le_of_ble_eq_true rfl) ?_
  intro p e s m args below meth c A hz hA hr hlk hnm9 Q hQ
  refine z_lv (lv' := [(0, .ref (ad 99)), (1, .int 7), (2, .int 2), (3, .int x)]) [0, 1, 2, 3] rfl ?_
  refine z_iconst hz 4 dX10_body_0 ki_4 ?_
  refine z_iload_n hz dX10_body_1 1 rfl rfl ?_
  refine z_imul hz dX10_body_2 ?_
  refine z_top (y := 28) (by decide) ?_
  refine z_iload_n hz dX10_body_3 2 rfl rfl ?_
  refine z_iadd hz dX10_body_4 ?_
  refine z_top (y := 30) (by decide) ?_
  refine z_tabOut hz 359 dX10_body_5 (by decide) (by decide) ?_
  refine z_aload_n hz dX10_body_359 0 rfl rfl ?_
  refine z_bipush hz 80 dX10_body_360 kb_80 ?_
  refine z_callD (bs2 := [zO (ad 99) 10 (mFs ad (upd (upd iv 24 (nI w)) 23 (nI ((bgF 80 sv).2)))), zI (G.2.2.1 0) (ad 0) 602 g, zI (G.2.2.1 0) (ad 22) 40 ((bgF 80 sv).1)]) (st2 := []) hz hA (zk_V hz (rm := (zRm 0 0 0 0)) (As := [.int 80]) (rest := []) 1 q2444 q2446 qs77 q95 q2447 (by decide +kernel) ⟨Nat.le_of_ble_eq_true rfl, Nat.le_of_ble_eq_true rfl⟩ ⟨Nat.le_of_ble_eq_true rfl, Nat.le_of_ble_eq_true rfl⟩ (zRecv (q := (RX10, TX10, 29)) hz (zAt.mt 0 0 rfl rfl) rfl) rfl rfl (Nat.le_of_ble_eq_true rfl) dX10_body_362) (mM_began ad iv sv w 80 hs40) [0, 2] rfl (by decide) rfl rfl ?_
  refine z_aload_n hz dX10_body_365 0 rfl rfl ?_
  refine z_iconst hz 5 dX10_body_366 ki_5 ?_
  refine z_iconst hz 2 dX10_body_367 ki_2 ?_
  refine z_iload_n hz dX10_body_368 3 rfl rfl ?_
  refine z_callD (bs2 := [zO (ad 99) 10 (mFs ad (upd (upd iv 24 (nI w)) 23 (nI ((b52 (nI w) (g (152 + 4 * w + 1)) x (bgF 80 sv)).2.2)))), zI (G.2.2.1 0) (ad 0) 602 g, zI (G.2.2.1 0) (ad 22) 40 ((b52 (nI w) (g (152 + 4 * w + 1)) x (bgF 80 sv)).2.1)]) (st2 := [.int ((b52 (nI w) (g (152 + 4 * w + 1)) x (bgF 80 sv)).1)]) hz hA (zk_V hz (rm := (zRm 5 0 0 150)) (As := [.int 5, .int 2, .int x]) (rest := []) 3 q2433 q2435 qs75 q95 q2436 (by decide +kernel) ⟨Nat.le_of_ble_eq_true rfl, Nat.le_of_ble_eq_true rfl⟩ ⟨Nat.le_of_ble_eq_true rfl, Nat.le_of_ble_eq_true rfl⟩ (zRecv (q := (RX10, TX10, 29)) hz (zAt.mt 0 0 rfl rfl) rfl) rfl rfl (Nat.le_of_ble_eq_true rfl) dX10_body_369) (mM_f52 ad iv g (bgF 80 sv) w K hw hK8 hK (bgF_le hs40) x) [0, 1, 2] rfl (by decide) rfl rfl ?_
  refine z_istore (lv' := [(0, .ref (ad 99)), (1, .int 7), (2, .int 2), (3, .int x), (4, .int ((b52 (nI w) (g (152 + 4 * w + 1)) x (bgF 80 sv)).1))]) hz [1, 2, 3, 4, 0] dX10_body_372 (by decide) rfl ?_
  refine z_iload hz dX10_body_374 4 rfl ?_
  refine z_aload_n hz dX10_body_376 0 rfl rfl ?_
  refine z_iconst hz 0 dX10_body_377 ki_0 ?_
  refine z_iload_n hz dX10_body_378 3 rfl rfl ?_
  refine z_callD (bs2 := [zO (ad 99) 10 (mFs ad (upd (upd iv 24 (nI w)) 23 (nI ((v0 (nI w) K x (b52 (nI w) (g (152 + 4 * w + 1)) x (bgF 80 sv)).2).2.2)))), zI (G.2.2.1 0) (ad 0) 602 g, zI (G.2.2.1 0) (ad 22) 40 ((v0 (nI w) K x (b52 (nI w) (g (152 + 4 * w + 1)) x (bgF 80 sv)).2).2.1)]) (st2 := [.int ((v0 (nI w) K x (b52 (nI w) (g (152 + 4 * w + 1)) x (bgF 80 sv)).2).1), .int ((b52 (nI w) (g (152 + 4 * w + 1)) x (bgF 80 sv)).1)]) hz hA (zk_V hz (rm := (zRm 6 0 0 180)) (As := [.int 0, .int x]) (rest := [.int ((b52 (nI w) (g (152 + 4 * w + 1)) x (bgF 80 sv)).1)]) 2 q2429 q2431 qs74 q95 q2432 (by decide +kernel) ⟨Nat.le_of_ble_eq_true rfl, Nat.le_of_ble_eq_true rfl⟩ ⟨Nat.le_of_ble_eq_true rfl, Nat.le_of_ble_eq_true rfl⟩ (zRecv (q := (RX10, TX10, 29)) hz (zAt.mt 0 0 rfl rfl) rfl) rfl rfl (Nat.le_of_ble_eq_true rfl) dX10_body_379) (mM_v0 ad iv g (b52 (nI w) (g (152 + 4 * w + 1)) x (bgF 80 sv)).2 w K hw hK8 hK (b52_le (bgF_le hs40)) x) [0, 1, 2] rfl (by decide) rfl rfl ?_
  refine z_ixor hz dX10_body_382 ?_
  exact z_iret hQ hz hr hlk dX10_body_383 ⟨rfl, rfl⟩
set_option maxHeartbeats 400000 in
theorem mM_f12 {G : zG} (ad : Nat → Nat) (iv g : Nat → Int32) (sv : zV) (w K : Nat) (hw : w < 12) (hK8 : K < 8) (hK : g (152 + 4 * w) = nI K) (hs40 : sv.2 ≤ 40) (x : Int32) : zMet G yX10_bodyFrom (ws_ yX10_bodyFrom cX10_bodyFrom 5 (some .int)) (zRm 3 0 0 90) [.ref (ad 99), .int 1, .int 2, .int x] [zO (ad 99) 10 (mFs ad (upd (upd iv 24 (nI w)) 23 (nI sv.2))), zI (G.2.2.1 0) (ad 0) 602 g, zI (G.2.2.1 0) (ad 22) 40 sv.1] (fun v9 b9 => v9 = some (.int (b02 (g (152 + 4 * w + 1)) x sv).1) ∧ b9 = [zO (ad 99) 10 (mFs ad (upd (upd iv 24 (nI w)) 23 (nI ((b02 (g (152 + 4 * w + 1)) x sv).2.2)))), zI (G.2.2.1 0) (ad 0) 602 g, zI (G.2.2.1 0) (ad 22) 40 ((b02 (g (152 + 4 * w + 1)) x sv).2.1)]) := by
  refine zMet.of (by decide +kernel) (Nat.le_of_ble_eq_true rfl) ?_
  intro p e s m args below meth c A hz hA hr hlk hnm9 Q hQ
  refine z_lv (lv' := [(0, .ref (ad 99)), (1, .int 1), (2, .int 2), (3, .int x)]) [0, 1, 2, 3] rfl ?_
  refine z_iload_n hz dX10_bodyFrom_0 1 rfl rfl ?_
  refine z_istore (lv' := [(0, .ref (ad 99)), (1, .int 1), (2, .int 2), (3, .int x), (4, .int 1)]) hz [1, 2, 3, 4, 0] dX10_bodyFrom_1 (by decide) rfl ?_
  refine z_iload hz dX10_bodyFrom_3 4 rfl ?_
  refine z_iload_n hz dX10_bodyFrom_5 2 rfl rfl ?_
  refine z_callRD (st2 := [.int (zB (ownP 1 2))]) hz zKp.mt (zk_S hz (rm := (zRm 0 0 0 0)) (As := [.int 1, .int 2]) (rest := []) 2 q2437 q2438 q95 q2439 (by decide +kernel) ⟨Nat.le_of_ble_eq_true rfl, Nat.le_of_ble_eq_true rfl⟩ ⟨Nat.le_of_ble_eq_true rfl, Nat.le_of_ble_eq_true rfl⟩ rfl rfl (Nat.le_of_ble_eq_true rfl) dX10_bodyFrom_6) (mM_hasOwn 1 2 (by decide) (by decide)) (fun _ _ _ => zP0) rfl ?_
  refine z_ifB_neF hz 22 dX10_bodyFrom_9 (by decide) (by decide) ?_
  refine z_iload hz dX10_bodyFrom_12 4 rfl ?_
  refine z_callRD (st2 := [.int 0]) hz zKp.mt (zk_S hz (rm := (zRm 0 0 0 0)) (As := [.int 1]) (rest := []) 1 q2229 q2230 q95 q2231 (by decide +kernel) ⟨Nat.le_of_ble_eq_true rfl, Nat.le_of_ble_eq_true rfl⟩ ⟨Nat.le_of_ble_eq_true rfl, Nat.le_of_ble_eq_true rfl⟩ rfl rfl (Nat.le_of_ble_eq_true rfl) dX10_bodyFrom_14) (mM_above 1 (by decide)) (fun _ _ _ => zP0) rfl ?_
  refine z_istore (lv' := [(0, .ref (ad 99)), (1, .int 1), (2, .int 2), (3, .int x), (4, .int 0)]) hz [1, 2, 3, 4, 0] dX10_bodyFrom_17 (by decide) rfl ?_
  refine z_goto hz 3 dX10_bodyFrom_19 (by decide) ?_
  refine z_iload hz dX10_bodyFrom_3 4 rfl ?_
  refine z_iload_n hz dX10_bodyFrom_5 2 rfl rfl ?_
  refine z_callRD (st2 := [.int (zB (ownP 0 2))]) hz zKp.mt (zk_S hz (rm := (zRm 0 0 0 0)) (As := [.int 0, .int 2]) (rest := []) 2 q2437 q2438 q95 q2439 (by decide +kernel) ⟨Nat.le_of_ble_eq_true rfl, Nat.le_of_ble_eq_true rfl⟩ ⟨Nat.le_of_ble_eq_true rfl, Nat.le_of_ble_eq_true rfl⟩ rfl rfl (Nat.le_of_ble_eq_true rfl) dX10_bodyFrom_6) (mM_hasOwn 0 2 (by decide) (by decide)) (fun _ _ _ => zP0) rfl ?_
  refine z_ifB_neT hz 22 dX10_bodyFrom_9 (by decide) (by decide) ?_
  refine z_aload_n hz dX10_bodyFrom_22 0 rfl rfl ?_
  refine z_iload hz dX10_bodyFrom_23 4 rfl ?_
  refine z_iload_n hz dX10_bodyFrom_25 2 rfl rfl ?_
  refine z_iload_n hz dX10_bodyFrom_26 3 rfl rfl ?_
  refine z_callD (bs2 := [zO (ad 99) 10 (mFs ad (upd (upd iv 24 (nI w)) 23 (nI ((b02 (g (152 + 4 * w + 1)) x sv).2.2)))), zI (G.2.2.1 0) (ad 0) 602 g, zI (G.2.2.1 0) (ad 22) 40 ((b02 (g (152 + 4 * w + 1)) x sv).2.1)]) (st2 := [.int ((b02 (g (152 + 4 * w + 1)) x sv).1)]) hz hA (zk_V hz (rm := (zRm 2 0 0 60)) (As := [.int 0, .int 2, .int x]) (rest := []) 3 q2440 q2442 qs76 q95 q2443 (by decide +kernel) ⟨Nat.le_of_ble_eq_true rfl, Nat.le_of_ble_eq_true rfl⟩ ⟨Nat.le_of_ble_eq_true rfl, Nat.le_of_ble_eq_true rfl⟩ (zRecv (q := (RX10, TX10, 29)) hz (zAt.mt 0 0 rfl rfl) rfl) rfl rfl (Nat.le_of_ble_eq_true rfl) dX10_bodyFrom_27) (mM_b02 ad iv g sv w K hw hK8 hK hs40 x) [0, 1, 2] rfl (by decide) rfl rfl ?_
  exact z_iret hQ hz hr hlk dX10_bodyFrom_30 ⟨rfl, rfl⟩
set_option maxHeartbeats 400000 in
theorem mM_f22 {G : zG} (ad : Nat → Nat) (iv g : Nat → Int32) (sv : zV) (w K : Nat) (hw : w < 12) (hK8 : K < 8) (hK : g (152 + 4 * w) = nI K) (hs40 : sv.2 ≤ 40) (x : Int32) : zMet G yX10_bodyFrom (ws_ yX10_bodyFrom cX10_bodyFrom 5 (some .int)) (zRm 5 0 0 150) [.ref (ad 99), .int 2, .int 2, .int x] [zO (ad 99) 10 (mFs ad (upd (upd iv 24 (nI w)) 23 (nI sv.2))), zI (G.2.2.1 0) (ad 0) 602 g, zI (G.2.2.1 0) (ad 22) 40 sv.1] (fun v9 b9 => v9 = some (.int (b22 (g (152 + 4 * w + 1)) x sv).1) ∧ b9 = [zO (ad 99) 10 (mFs ad (upd (upd iv 24 (nI w)) 23 (nI ((b22 (g (152 + 4 * w + 1)) x sv).2.2)))), zI (G.2.2.1 0) (ad 0) 602 g, zI (G.2.2.1 0) (ad 22) 40 ((b22 (g (152 + 4 * w + 1)) x sv).2.1)]) := by
  refine zMet.of (by decide +kernel) (Nat.le_of_ble_eq_true rfl) ?_
  intro p e s m args below meth c A hz hA hr hlk hnm9 Q hQ
  refine z_lv (lv' := [(0, .ref (ad 99)), (1, .int 2), (2, .int 2), (3, .int x)]) [0, 1, 2, 3] rfl ?_
  refine z_iload_n hz dX10_bodyFrom_0 1 rfl rfl ?_
  refine z_istore (lv' := [(0, .ref (ad 99)), (1, .int 2), (2, .int 2), (3, .int x), (4, .int 2)]) hz [1, 2, 3, 4, 0] dX10_bodyFrom_1 (by decide) rfl ?_
  refine z_iload hz dX10_bodyFrom_3 4 rfl ?_
  refine z_iload_n hz dX10_bodyFrom_5 2 rfl rfl ?_
  refine z_callRD (st2 := [.int (zB (ownP 2 2))]) hz zKp.mt (zk_S hz (rm := (zRm 0 0 0 0)) (As := [.int 2, .int 2]) (rest := []) 2 q2437 q2438 q95 q2439 (by decide +kernel) ⟨Nat.le_of_ble_eq_true rfl, Nat.le_of_ble_eq_true rfl⟩ ⟨Nat.le_of_ble_eq_true rfl, Nat.le_of_ble_eq_true rfl⟩ rfl rfl (Nat.le_of_ble_eq_true rfl) dX10_bodyFrom_6) (mM_hasOwn 2 2 (by decide) (by decide)) (fun _ _ _ => zP0) rfl ?_
  refine z_ifB_neT hz 22 dX10_bodyFrom_9 (by decide) (by decide) ?_
  refine z_aload_n hz dX10_bodyFrom_22 0 rfl rfl ?_
  refine z_iload hz dX10_bodyFrom_23 4 rfl ?_
  refine z_iload_n hz dX10_bodyFrom_25 2 rfl rfl ?_
  refine z_iload_n hz dX10_bodyFrom_26 3 rfl rfl ?_
  refine z_callD (bs2 := [zO (ad 99) 10 (mFs ad (upd (upd iv 24 (nI w)) 23 (nI ((b22 (g (152 + 4 * w + 1)) x sv).2.2)))), zI (G.2.2.1 0) (ad 0) 602 g, zI (G.2.2.1 0) (ad 22) 40 ((b22 (g (152 + 4 * w + 1)) x sv).2.1)]) (st2 := [.int ((b22 (g (152 + 4 * w + 1)) x sv).1)]) hz hA (zk_V hz (rm := (zRm 4 0 0 120)) (As := [.int 2, .int 2, .int x]) (rest := []) 3 q2440 q2442 qs76 q95 q2443 (by decide +kernel) ⟨Nat.le_of_ble_eq_true rfl, Nat.le_of_ble_eq_true rfl⟩ ⟨Nat.le_of_ble_eq_true rfl, Nat.le_of_ble_eq_true rfl⟩ (zRecv (q := (RX10, TX10, 29)) hz (zAt.mt 0 0 rfl rfl) rfl) rfl rfl (Nat.le_of_ble_eq_true rfl) dX10_bodyFrom_27) (mM_b22 ad iv g sv w K hw hK8 hK hs40 x) [0, 1, 2] rfl (by decide) rfl rfl ?_
  exact z_iret hQ hz hr hlk dX10_bodyFrom_30 ⟨rfl, rfl⟩
set_option maxHeartbeats 400000 in
theorem mM_f32 {G : zG} (ad : Nat → Nat) (iv g : Nat → Int32) (sv : zV) (w K : Nat) (hw : w < 12) (hK8 : K < 8) (hK : g (152 + 4 * w) = nI K) (hs40 : sv.2 ≤ 40) (x : Int32) : zMet G yX10_bodyFrom (ws_ yX10_bodyFrom cX10_bodyFrom 5 (some .int)) (zRm 3 0 0 90) [.ref (ad 99), .int 3, .int 2, .int x] [zO (ad 99) 10 (mFs ad (upd (upd iv 24 (nI w)) 23 (nI sv.2))), zI (G.2.2.1 0) (ad 0) 602 g, zI (G.2.2.1 0) (ad 22) 40 sv.1] (fun v9 b9 => v9 = some (.int (b02 (g (152 + 4 * w + 1)) x sv).1) ∧ b9 = [zO (ad 99) 10 (mFs ad (upd (upd iv 24 (nI w)) 23 (nI ((b02 (g (152 + 4 * w + 1)) x sv).2.2)))), zI (G.2.2.1 0) (ad 0) 602 g, zI (G.2.2.1 0) (ad 22) 40 ((b02 (g (152 + 4 * w + 1)) x sv).2.1)]) := by
  refine zMet.of (by decide +kernel) (Nat.le_of_ble_eq_true rfl) ?_
  intro p e s m args below meth c A hz hA hr hlk hnm9 Q hQ
  refine z_lv (lv' := [(0, .ref (ad 99)), (1, .int 3), (2, .int 2), (3, .int x)]) [0, 1, 2, 3] rfl ?_
  refine z_iload_n hz dX10_bodyFrom_0 1 rfl rfl ?_
  refine z_istore (lv' := [(0, .ref (ad 99)), (1, .int 3), (2, .int 2), (3, .int x), (4, .int 3)]) hz [1, 2, 3, 4, 0] dX10_bodyFrom_1 (by decide) rfl ?_
  refine z_iload hz dX10_bodyFrom_3 4 rfl ?_
  refine z_iload_n hz dX10_bodyFrom_5 2 rfl rfl ?_
  refine z_callRD (st2 := [.int (zB (ownP 3 2))]) hz zKp.mt (zk_S hz (rm := (zRm 0 0 0 0)) (As := [.int 3, .int 2]) (rest := []) 2 q2437 q2438 q95 q2439 (by decide +kernel) ⟨Nat.le_of_ble_eq_true rfl, Nat.le_of_ble_eq_true rfl⟩ ⟨Nat.le_of_ble_eq_true rfl, Nat.le_of_ble_eq_true rfl⟩ rfl rfl (Nat.le_of_ble_eq_true rfl) dX10_bodyFrom_6) (mM_hasOwn 3 2 (by decide) (by decide)) (fun _ _ _ => zP0) rfl ?_
  refine z_ifB_neF hz 22 dX10_bodyFrom_9 (by decide) (by decide) ?_
  refine z_iload hz dX10_bodyFrom_12 4 rfl ?_
  refine z_callRD (st2 := [.int 1]) hz zKp.mt (zk_S hz (rm := (zRm 0 0 0 0)) (As := [.int 3]) (rest := []) 1 q2229 q2230 q95 q2231 (by decide +kernel) ⟨Nat.le_of_ble_eq_true rfl, Nat.le_of_ble_eq_true rfl⟩ ⟨Nat.le_of_ble_eq_true rfl, Nat.le_of_ble_eq_true rfl⟩ rfl rfl (Nat.le_of_ble_eq_true rfl) dX10_bodyFrom_14) (mM_above 3 (by decide)) (fun _ _ _ => zP0) rfl ?_
  refine z_istore (lv' := [(0, .ref (ad 99)), (1, .int 3), (2, .int 2), (3, .int x), (4, .int 1)]) hz [1, 2, 3, 4, 0] dX10_bodyFrom_17 (by decide) rfl ?_
  refine z_goto hz 3 dX10_bodyFrom_19 (by decide) ?_
  refine z_iload hz dX10_bodyFrom_3 4 rfl ?_
  refine z_iload_n hz dX10_bodyFrom_5 2 rfl rfl ?_
  refine z_callRD (st2 := [.int (zB (ownP 1 2))]) hz zKp.mt (zk_S hz (rm := (zRm 0 0 0 0)) (As := [.int 1, .int 2]) (rest := []) 2 q2437 q2438 q95 q2439 (by decide +kernel) ⟨Nat.le_of_ble_eq_true rfl, Nat.le_of_ble_eq_true rfl⟩ ⟨Nat.le_of_ble_eq_true rfl, Nat.le_of_ble_eq_true rfl⟩ rfl rfl (Nat.le_of_ble_eq_true rfl) dX10_bodyFrom_6) (mM_hasOwn 1 2 (by decide) (by decide)) (fun _ _ _ => zP0) rfl ?_
  refine z_ifB_neF hz 22 dX10_bodyFrom_9 (by decide) (by decide) ?_
  refine z_iload hz dX10_bodyFrom_12 4 rfl ?_
  refine z_callRD (st2 := [.int 0]) hz zKp.mt (zk_S hz (rm := (zRm 0 0 0 0)) (As := [.int 1]) (rest := []) 1 q2229 q2230 q95 q2231 (by decide +kernel) ⟨Nat.le_of_ble_eq_true rfl, Nat.le_of_ble_eq_true rfl⟩ ⟨Nat.le_of_ble_eq_true rfl, Nat.le_of_ble_eq_true rfl⟩ rfl rfl (Nat.le_of_ble_eq_true rfl) dX10_bodyFrom_14) (mM_above 1 (by decide)) (fun _ _ _ => zP0) rfl ?_
  refine z_istore (lv' := [(0, .ref (ad 99)), (1, .int 3), (2, .int 2), (3, .int x), (4, .int 0)]) hz [1, 2, 3, 4, 0] dX10_bodyFrom_17 (by decide) rfl ?_
  refine z_goto hz 3 dX10_bodyFrom_19 (by decide) ?_
  refine z_iload hz dX10_bodyFrom_3 4 rfl ?_
  refine z_iload_n hz dX10_bodyFrom_5 2 rfl rfl ?_
  refine z_callRD (st2 := [.int (zB (ownP 0 2))]) hz zKp.mt (zk_S hz (rm := (zRm 0 0 0 0)) (As := [.int 0, .int 2]) (rest := []) 2 q2437 q2438 q95 q2439 (by decide +kernel) ⟨Nat.le_of_ble_eq_true rfl, Nat.le_of_ble_eq_true rfl⟩ ⟨Nat.le_of_ble_eq_true rfl, Nat.le_of_ble_eq_true rfl⟩ rfl rfl (Nat.le_of_ble_eq_true rfl) dX10_bodyFrom_6) (mM_hasOwn 0 2 (by decide) (by decide)) (fun _ _ _ => zP0) rfl ?_
  refine z_ifB_neT hz 22 dX10_bodyFrom_9 (by decide) (by decide) ?_
  refine z_aload_n hz dX10_bodyFrom_22 0 rfl rfl ?_
  refine z_iload hz dX10_bodyFrom_23 4 rfl ?_
  refine z_iload_n hz dX10_bodyFrom_25 2 rfl rfl ?_
  refine z_iload_n hz dX10_bodyFrom_26 3 rfl rfl ?_
  refine z_callD (bs2 := [zO (ad 99) 10 (mFs ad (upd (upd iv 24 (nI w)) 23 (nI ((b02 (g (152 + 4 * w + 1)) x sv).2.2)))), zI (G.2.2.1 0) (ad 0) 602 g, zI (G.2.2.1 0) (ad 22) 40 ((b02 (g (152 + 4 * w + 1)) x sv).2.1)]) (st2 := [.int ((b02 (g (152 + 4 * w + 1)) x sv).1)]) hz hA (zk_V hz (rm := (zRm 2 0 0 60)) (As := [.int 0, .int 2, .int x]) (rest := []) 3 q2440 q2442 qs76 q95 q2443 (by decide +kernel) ⟨Nat.le_of_ble_eq_true rfl, Nat.le_of_ble_eq_true rfl⟩ ⟨Nat.le_of_ble_eq_true rfl, Nat.le_of_ble_eq_true rfl⟩ (zRecv (q := (RX10, TX10, 29)) hz (zAt.mt 0 0 rfl rfl) rfl) rfl rfl (Nat.le_of_ble_eq_true rfl) dX10_bodyFrom_27) (mM_b02 ad iv g sv w K hw hK8 hK hs40 x) [0, 1, 2] rfl (by decide) rfl rfl ?_
  exact z_iret hQ hz hr hlk dX10_bodyFrom_30 ⟨rfl, rfl⟩
set_option maxHeartbeats 400000 in
theorem mM_f42 {G : zG} (ad : Nat → Nat) (iv g : Nat → Int32) (sv : zV) (w K : Nat) (hw : w < 12) (hK8 : K < 8) (hK : g (152 + 4 * w) = nI K) (hs40 : sv.2 ≤ 40) (x : Int32) : zMet G yX10_bodyFrom (ws_ yX10_bodyFrom cX10_bodyFrom 5 (some .int)) (zRm 3 0 0 90) [.ref (ad 99), .int 4, .int 2, .int x] [zO (ad 99) 10 (mFs ad (upd (upd iv 24 (nI w)) 23 (nI sv.2))), zI (G.2.2.1 0) (ad 0) 602 g, zI (G.2.2.1 0) (ad 22) 40 sv.1] (fun v9 b9 => v9 = some (.int (b02 (g (152 + 4 * w + 1)) x sv).1) ∧ b9 = [zO (ad 99) 10 (mFs ad (upd (upd iv 24 (nI w)) 23 (nI ((b02 (g (152 + 4 * w + 1)) x sv).2.2)))), zI (G.2.2.1 0) (ad 0) 602 g, zI (G.2.2.1 0) (ad 22) 40 ((b02 (g (152 + 4 * w + 1)) x sv).2.1)]) := by
  refine zMet.of (by decide +kernel) (Nat.le_of_ble_eq_true rfl) ?_
  intro p e s m args below meth c A hz hA hr hlk hnm9 Q hQ
  refine z_lv (lv' := [(0, .ref (ad 99)), (1, .int 4), (2, .int 2), (3, .int x)]) [0, 1, 2, 3] rfl ?_
  refine z_iload_n hz dX10_bodyFrom_0 1 rfl rfl ?_
  refine z_istore (lv' := [(0, .ref (ad 99)), (1, .int 4), (2, .int 2), (3, .int x), (4, .int 4)]) hz [1, 2, 3, 4, 0] dX10_bodyFrom_1 (by decide) rfl ?_
  refine z_iload hz dX10_bodyFrom_3 4 rfl ?_
  refine z_iload_n hz dX10_bodyFrom_5 2 rfl rfl ?_
  refine z_callRD (st2 := [.int (zB (ownP 4 2))]) hz zKp.mt (zk_S hz (rm := (zRm 0 0 0 0)) (As := [.int 4, .int 2]) (rest := []) 2 q2437 q2438 q95 q2439 (by decide +kernel) ⟨Nat.le_of_ble_eq_true rfl, Nat.le_of_ble_eq_true rfl⟩ ⟨Nat.le_of_ble_eq_true rfl, Nat.le_of_ble_eq_true rfl⟩ rfl rfl (Nat.le_of_ble_eq_true rfl) dX10_bodyFrom_6) (mM_hasOwn 4 2 (by decide) (by decide)) (fun _ _ _ => zP0) rfl ?_
  refine z_ifB_neF hz 22 dX10_bodyFrom_9 (by decide) (by decide) ?_
  refine z_iload hz dX10_bodyFrom_12 4 rfl ?_
  refine z_callRD (st2 := [.int 0]) hz zKp.mt (zk_S hz (rm := (zRm 0 0 0 0)) (As := [.int 4]) (rest := []) 1 q2229 q2230 q95 q2231 (by decide +kernel) ⟨Nat.le_of_ble_eq_true rfl, Nat.le_of_ble_eq_true rfl⟩ ⟨Nat.le_of_ble_eq_true rfl, Nat.le_of_ble_eq_true rfl⟩ rfl rfl (Nat.le_of_ble_eq_true rfl) dX10_bodyFrom_14) (mM_above 4 (by decide)) (fun _ _ _ => zP0) rfl ?_
  refine z_istore (lv' := [(0, .ref (ad 99)), (1, .int 4), (2, .int 2), (3, .int x), (4, .int 0)]) hz [1, 2, 3, 4, 0] dX10_bodyFrom_17 (by decide) rfl ?_
  refine z_goto hz 3 dX10_bodyFrom_19 (by decide) ?_
  refine z_iload hz dX10_bodyFrom_3 4 rfl ?_
  refine z_iload_n hz dX10_bodyFrom_5 2 rfl rfl ?_
  refine z_callRD (st2 := [.int (zB (ownP 0 2))]) hz zKp.mt (zk_S hz (rm := (zRm 0 0 0 0)) (As := [.int 0, .int 2]) (rest := []) 2 q2437 q2438 q95 q2439 (by decide +kernel) ⟨Nat.le_of_ble_eq_true rfl, Nat.le_of_ble_eq_true rfl⟩ ⟨Nat.le_of_ble_eq_true rfl, Nat.le_of_ble_eq_true rfl⟩ rfl rfl (Nat.le_of_ble_eq_true rfl) dX10_bodyFrom_6) (mM_hasOwn 0 2 (by decide) (by decide)) (fun _ _ _ => zP0) rfl ?_
  refine z_ifB_neT hz 22 dX10_bodyFrom_9 (by decide) (by decide) ?_
  refine z_aload_n hz dX10_bodyFrom_22 0 rfl rfl ?_
  refine z_iload hz dX10_bodyFrom_23 4 rfl ?_
  refine z_iload_n hz dX10_bodyFrom_25 2 rfl rfl ?_
  refine z_iload_n hz dX10_bodyFrom_26 3 rfl rfl ?_
  refine z_callD (bs2 := [zO (ad 99) 10 (mFs ad (upd (upd iv 24 (nI w)) 23 (nI ((b02 (g (152 + 4 * w + 1)) x sv).2.2)))), zI (G.2.2.1 0) (ad 0) 602 g, zI (G.2.2.1 0) (ad 22) 40 ((b02 (g (152 + 4 * w + 1)) x sv).2.1)]) (st2 := [.int ((b02 (g (152 + 4 * w + 1)) x sv).1)]) hz hA (zk_V hz (rm := (zRm 2 0 0 60)) (As := [.int 0, .int 2, .int x]) (rest := []) 3 q2440 q2442 qs76 q95 q2443 (by decide +kernel) ⟨Nat.le_of_ble_eq_true rfl, Nat.le_of_ble_eq_true rfl⟩ ⟨Nat.le_of_ble_eq_true rfl, Nat.le_of_ble_eq_true rfl⟩ (zRecv (q := (RX10, TX10, 29)) hz (zAt.mt 0 0 rfl rfl) rfl) rfl rfl (Nat.le_of_ble_eq_true rfl) dX10_bodyFrom_27) (mM_b02 ad iv g sv w K hw hK8 hK hs40 x) [0, 1, 2] rfl (by decide) rfl rfl ?_
  exact z_iret hQ hz hr hlk dX10_bodyFrom_30 ⟨rfl, rfl⟩
set_option maxHeartbeats 400000 in
theorem mM_f62 {G : zG} (ad : Nat → Nat) (iv g : Nat → Int32) (sv : zV) (w K : Nat) (hw : w < 12) (hK8 : K < 8) (hK : g (152 + 4 * w) = nI K) (hs40 : sv.2 ≤ 40) (x : Int32) : zMet G yX10_bodyFrom (ws_ yX10_bodyFrom cX10_bodyFrom 5 (some .int)) (zRm 3 0 0 90) [.ref (ad 99), .int 6, .int 2, .int x] [zO (ad 99) 10 (mFs ad (upd (upd iv 24 (nI w)) 23 (nI sv.2))), zI (G.2.2.1 0) (ad 0) 602 g, zI (G.2.2.1 0) (ad 22) 40 sv.1] (fun v9 b9 => v9 = some (.int (b02 (g (152 + 4 * w + 1)) x sv).1) ∧ b9 = [zO (ad 99) 10 (mFs ad (upd (upd iv 24 (nI w)) 23 (nI ((b02 (g (152 + 4 * w + 1)) x sv).2.2)))), zI (G.2.2.1 0) (ad 0) 602 g, zI (G.2.2.1 0) (ad 22) 40 ((b02 (g (152 + 4 * w + 1)) x sv).2.1)]) := by
  refine zMet.of (by decide +kernel) (Nat.le_of_ble_eq_true rfl) ?_
  intro p e s m args below meth c A hz hA hr hlk hnm9 Q hQ
  refine z_lv (lv' := [(0, .ref (ad 99)), (1, .int 6), (2, .int 2), (3, .int x)]) [0, 1, 2, 3] rfl ?_
  refine z_iload_n hz dX10_bodyFrom_0 1 rfl rfl ?_
  refine z_istore (lv' := [(0, .ref (ad 99)), (1, .int 6), (2, .int 2), (3, .int x), (4, .int 6)]) hz [1, 2, 3, 4, 0] dX10_bodyFrom_1 (by decide) rfl ?_
  refine z_iload hz dX10_bodyFrom_3 4 rfl ?_
  refine z_iload_n hz dX10_bodyFrom_5 2 rfl rfl ?_
  refine z_callRD (st2 := [.int (zB (ownP 6 2))]) hz zKp.mt (zk_S hz (rm := (zRm 0 0 0 0)) (As := [.int 6, .int 2]) (rest := []) 2 q2437 q2438 q95 q2439 (by decide +kernel) ⟨Nat.le_of_ble_eq_true rfl, Nat.le_of_ble_eq_true rfl⟩ ⟨Nat.le_of_ble_eq_true rfl, Nat.le_of_ble_eq_true rfl⟩ rfl rfl (Nat.le_of_ble_eq_true rfl) dX10_bodyFrom_6) (mM_hasOwn 6 2 (by decide) (by decide)) (fun _ _ _ => zP0) rfl ?_
  refine z_ifB_neF hz 22 dX10_bodyFrom_9 (by decide) (by decide) ?_
  refine z_iload hz dX10_bodyFrom_12 4 rfl ?_
  refine z_callRD (st2 := [.int 1]) hz zKp.mt (zk_S hz (rm := (zRm 0 0 0 0)) (As := [.int 6]) (rest := []) 1 q2229 q2230 q95 q2231 (by decide +kernel) ⟨Nat.le_of_ble_eq_true rfl, Nat.le_of_ble_eq_true rfl⟩ ⟨Nat.le_of_ble_eq_true rfl, Nat.le_of_ble_eq_true rfl⟩ rfl rfl (Nat.le_of_ble_eq_true rfl) dX10_bodyFrom_14) (mM_above 6 (by decide)) (fun _ _ _ => zP0) rfl ?_
  refine z_istore (lv' := [(0, .ref (ad 99)), (1, .int 6), (2, .int 2), (3, .int x), (4, .int 1)]) hz [1, 2, 3, 4, 0] dX10_bodyFrom_17 (by decide) rfl ?_
  refine z_goto hz 3 dX10_bodyFrom_19 (by decide) ?_
  refine z_iload hz dX10_bodyFrom_3 4 rfl ?_
  refine z_iload_n hz dX10_bodyFrom_5 2 rfl rfl ?_
  refine z_callRD (st2 := [.int (zB (ownP 1 2))]) hz zKp.mt (zk_S hz (rm := (zRm 0 0 0 0)) (As := [.int 1, .int 2]) (rest := []) 2 q2437 q2438 q95 q2439 (by decide +kernel) ⟨Nat.le_of_ble_eq_true rfl, Nat.le_of_ble_eq_true rfl⟩ ⟨Nat.le_of_ble_eq_true rfl, Nat.le_of_ble_eq_true rfl⟩ rfl rfl (Nat.le_of_ble_eq_true rfl) dX10_bodyFrom_6) (mM_hasOwn 1 2 (by decide) (by decide)) (fun _ _ _ => zP0) rfl ?_
  refine z_ifB_neF hz 22 dX10_bodyFrom_9 (by decide) (by decide) ?_
  refine z_iload hz dX10_bodyFrom_12 4 rfl ?_
  refine z_callRD (st2 := [.int 0]) hz zKp.mt (zk_S hz (rm := (zRm 0 0 0 0)) (As := [.int 1]) (rest := []) 1 q2229 q2230 q95 q2231 (by decide +kernel) ⟨Nat.le_of_ble_eq_true rfl, Nat.le_of_ble_eq_true rfl⟩ ⟨Nat.le_of_ble_eq_true rfl, Nat.le_of_ble_eq_true rfl⟩ rfl rfl (Nat.le_of_ble_eq_true rfl) dX10_bodyFrom_14) (mM_above 1 (by decide)) (fun _ _ _ => zP0) rfl ?_
  refine z_istore (lv' := [(0, .ref (ad 99)), (1, .int 6), (2, .int 2), (3, .int x), (4, .int 0)]) hz [1, 2, 3, 4, 0] dX10_bodyFrom_17 (by decide) rfl ?_
  refine z_goto hz 3 dX10_bodyFrom_19 (by decide) ?_
  refine z_iload hz dX10_bodyFrom_3 4 rfl ?_
  refine z_iload_n hz dX10_bodyFrom_5 2 rfl rfl ?_
  refine z_callRD (st2 := [.int (zB (ownP 0 2))]) hz zKp.mt (zk_S hz (rm := (zRm 0 0 0 0)) (As := [.int 0, .int 2]) (rest := []) 2 q2437 q2438 q95 q2439 (by decide +kernel) ⟨Nat.le_of_ble_eq_true rfl, Nat.le_of_ble_eq_true rfl⟩ ⟨Nat.le_of_ble_eq_true rfl, Nat.le_of_ble_eq_true rfl⟩ rfl rfl (Nat.le_of_ble_eq_true rfl) dX10_bodyFrom_6) (mM_hasOwn 0 2 (by decide) (by decide)) (fun _ _ _ => zP0) rfl ?_
  refine z_ifB_neT hz 22 dX10_bodyFrom_9 (by decide) (by decide) ?_
  refine z_aload_n hz dX10_bodyFrom_22 0 rfl rfl ?_
  refine z_iload hz dX10_bodyFrom_23 4 rfl ?_
  refine z_iload_n hz dX10_bodyFrom_25 2 rfl rfl ?_
  refine z_iload_n hz dX10_bodyFrom_26 3 rfl rfl ?_
  refine z_callD (bs2 := [zO (ad 99) 10 (mFs ad (upd (upd iv 24 (nI w)) 23 (nI ((b02 (g (152 + 4 * w + 1)) x sv).2.2)))), zI (G.2.2.1 0) (ad 0) 602 g, zI (G.2.2.1 0) (ad 22) 40 ((b02 (g (152 + 4 * w + 1)) x sv).2.1)]) (st2 := [.int ((b02 (g (152 + 4 * w + 1)) x sv).1)]) hz hA (zk_V hz (rm := (zRm 2 0 0 60)) (As := [.int 0, .int 2, .int x]) (rest := []) 3 q2440 q2442 qs76 q95 q2443 (by decide +kernel) ⟨Nat.le_of_ble_eq_true rfl, Nat.le_of_ble_eq_true rfl⟩ ⟨Nat.le_of_ble_eq_true rfl, Nat.le_of_ble_eq_true rfl⟩ (zRecv (q := (RX10, TX10, 29)) hz (zAt.mt 0 0 rfl rfl) rfl) rfl rfl (Nat.le_of_ble_eq_true rfl) dX10_bodyFrom_27) (mM_b02 ad iv g sv w K hw hK8 hK hs40 x) [0, 1, 2] rfl (by decide) rfl rfl ?_
  exact z_iret hQ hz hr hlk dX10_bodyFrom_30 ⟨rfl, rfl⟩
set_option maxHeartbeats 400000 in
theorem mM_f72 {G : zG} (ad : Nat → Nat) (iv g : Nat → Int32) (sv : zV) (w K : Nat) (hw : w < 12) (hK8 : K < 8) (hK : g (152 + 4 * w) = nI K) (hs40 : sv.2 ≤ 40) (x : Int32) : zMet G yX10_bodyFrom (ws_ yX10_bodyFrom cX10_bodyFrom 5 (some .int)) (zRm 8 0 0 240) [.ref (ad 99), .int 7, .int 2, .int x] [zO (ad 99) 10 (mFs ad (upd (upd iv 24 (nI w)) 23 (nI sv.2))), zI (G.2.2.1 0) (ad 0) 602 g, zI (G.2.2.1 0) (ad 22) 40 sv.1] (fun v9 b9 => v9 = some (.int (b72 (nI w) (g (152 + 4 * w + 1)) K x sv).1) ∧ b9 = [zO (ad 99) 10 (mFs ad (upd (upd iv 24 (nI w)) 23 (nI ((b72 (nI w) (g (152 + 4 * w + 1)) K x sv).2.2)))), zI (G.2.2.1 0) (ad 0) 602 g, zI (G.2.2.1 0) (ad 22) 40 ((b72 (nI w) (g (152 + 4 * w + 1)) K x sv).2.1)]) := by
  refine zMet.of (by decide +kernel) (Nat.le_of_ble_eq_true rfl) ?_
  intro p e s m args below meth c A hz hA hr hlk hnm9 Q hQ
  refine z_lv (lv' := [(0, .ref (ad 99)), (1, .int 7), (2, .int 2), (3, .int x)]) [0, 1, 2, 3] rfl ?_
  refine z_iload_n hz dX10_bodyFrom_0 1 rfl rfl ?_
  refine z_istore (lv' := [(0, .ref (ad 99)), (1, .int 7), (2, .int 2), (3, .int x), (4, .int 7)]) hz [1, 2, 3, 4, 0] dX10_bodyFrom_1 (by decide) rfl ?_
  refine z_iload hz dX10_bodyFrom_3 4 rfl ?_
  refine z_iload_n hz dX10_bodyFrom_5 2 rfl rfl ?_
  refine z_callRD (st2 := [.int (zB (ownP 7 2))]) hz zKp.mt (zk_S hz (rm := (zRm 0 0 0 0)) (As := [.int 7, .int 2]) (rest := []) 2 q2437 q2438 q95 q2439 (by decide +kernel) ⟨Nat.le_of_ble_eq_true rfl, Nat.le_of_ble_eq_true rfl⟩ ⟨Nat.le_of_ble_eq_true rfl, Nat.le_of_ble_eq_true rfl⟩ rfl rfl (Nat.le_of_ble_eq_true rfl) dX10_bodyFrom_6) (mM_hasOwn 7 2 (by decide) (by decide)) (fun _ _ _ => zP0) rfl ?_
  refine z_ifB_neT hz 22 dX10_bodyFrom_9 (by decide) (by decide) ?_
  refine z_aload_n hz dX10_bodyFrom_22 0 rfl rfl ?_
  refine z_iload hz dX10_bodyFrom_23 4 rfl ?_
  refine z_iload_n hz dX10_bodyFrom_25 2 rfl rfl ?_
  refine z_iload_n hz dX10_bodyFrom_26 3 rfl rfl ?_
  refine z_callD (bs2 := [zO (ad 99) 10 (mFs ad (upd (upd iv 24 (nI w)) 23 (nI ((b72 (nI w) (g (152 + 4 * w + 1)) K x sv).2.2)))), zI (G.2.2.1 0) (ad 0) 602 g, zI (G.2.2.1 0) (ad 22) 40 ((b72 (nI w) (g (152 + 4 * w + 1)) K x sv).2.1)]) (st2 := [.int ((b72 (nI w) (g (152 + 4 * w + 1)) K x sv).1)]) hz hA (zk_V hz (rm := (zRm 7 0 0 210)) (As := [.int 7, .int 2, .int x]) (rest := []) 3 q2440 q2442 qs76 q95 q2443 (by decide +kernel) ⟨Nat.le_of_ble_eq_true rfl, Nat.le_of_ble_eq_true rfl⟩ ⟨Nat.le_of_ble_eq_true rfl, Nat.le_of_ble_eq_true rfl⟩ (zRecv (q := (RX10, TX10, 29)) hz (zAt.mt 0 0 rfl rfl) rfl) rfl rfl (Nat.le_of_ble_eq_true rfl) dX10_bodyFrom_27) (mM_b72 ad iv g sv w K hw hK8 hK hs40 x) [0, 1, 2] rfl (by decide) rfl rfl ?_
  exact z_iret hQ hz hr hlk dX10_bodyFrom_30 ⟨rfl, rfl⟩
set_option maxHeartbeats 400000 in
theorem mM_v2_0 {G : zG} (ad : Nat → Nat) (iv g : Nat → Int32) (sv : zV) (w : Nat) (hw : w < 12) (hK : g (152 + 4 * w) = nI 0) (hs40 : sv.2 ≤ 40) (x : Int32) : zMet G yX10_voiced (ws_ yX10_voiced cX10_voiced 3 (some .int)) (zRm 9 0 0 270) [.ref (ad 99), .int 2, .int x] [zO (ad 99) 10 (mFs ad (upd (upd iv 24 (nI w)) 23 (nI sv.2))), zI (G.2.2.1 0) (ad 0) 602 g, zI (G.2.2.1 0) (ad 22) 40 sv.1] (fun v9 b9 => v9 = some (.int (v2 (nI w) (g (152 + 4 * w + 1)) 0 x sv).1) ∧ b9 = [zO (ad 99) 10 (mFs ad (upd (upd iv 24 (nI w)) 23 (nI ((v2 (nI w) (g (152 + 4 * w + 1)) 0 x sv).2.2)))), zI (G.2.2.1 0) (ad 0) 602 g, zI (G.2.2.1 0) (ad 22) 40 ((v2 (nI w) (g (152 + 4 * w + 1)) 0 x sv).2.1)]) := by
  refine zMet.of (by decide +kernel) (Nat.le_of_ble_eq_true rfl) ?_
  intro p e s m args below meth c A hz hA hr hlk hnm9 Q hQ
  refine z_lv (lv' := [(0, .ref (ad 99)), (1, .int 2), (2, .int x)]) [0, 1, 2] rfl ?_
  refine z_aload_n hz dX10_voiced_0 0 rfl rfl ?_
  refine z_aload_n hz dX10_voiced_1 0 rfl rfl ?_
  refine z_aload_n hz dX10_voiced_2 0 rfl rfl ?_
  refine z_get (C := RX10) (T := TX10) (N := 29) hz in_X10 (zAt.mt 0 0 rfl rfl) rfl 24 (by decide) q1953 (fun _ h9 => h9) rfl dX10_voiced_3 ?_
  refine z_iconst hz 0 dX10_voiced_6 ki_0 ?_
  refine z_callRD (st2 := [.int (g (152 + 4 * w)), .ref (ad 99)]) hz zKp.mt (zk_V hz (rm := (zRm 0 0 0 0)) (As := [.int (nI w), .int 0]) (rest := [.ref (ad 99)]) 2 q2225 q2227 qs57 q95 q2228 (by decide +kernel) ⟨Nat.le_of_ble_eq_true rfl, Nat.le_of_ble_eq_true rfl⟩ ⟨Nat.le_of_ble_eq_true rfl, Nat.le_of_ble_eq_true rfl⟩ (zRecv (q := (RX10, TX10, 29)) hz (zAt.mt 0 0 rfl rfl) rfl) rfl rfl (Nat.le_of_ble_eq_true rfl) dX10_voiced_7) (mM_way2 ad (upd (upd iv 24 (nI w)) 23 (nI sv.2)) g w 0 (by omega)) (fun H9 L9 h9 => (zPc (zAt.mt 0 0 rfl rfl) h9 (zPc (zAt.mt 1 0 rfl rfl) h9 zP0))) rfl ?_
  refine z_top hK ?_
  refine z_top (y := 0) (by decide) ?_
  refine z_iload_n hz dX10_voiced_10 1 rfl rfl ?_
  refine z_iload_n hz dX10_voiced_11 2 rfl rfl ?_
  refine z_callD (bs2 := [zO (ad 99) 10 (mFs ad (upd (upd iv 24 (nI w)) 23 (nI ((b02 (g (152 + 4 * w + 1)) x sv).2.2)))), zI (G.2.2.1 0) (ad 0) 602 g, zI (G.2.2.1 0) (ad 22) 40 ((b02 (g (152 + 4 * w + 1)) x sv).2.1)]) (st2 := [.int ((b02 (g (152 + 4 * w + 1)) x sv).1)]) hz hA (zk_V hz (rm := (zRm 3 0 0 90)) (As := [.int 0, .int 2, .int x]) (rest := []) 3 q2433 q2435 qs75 q95 q2436 (by decide +kernel) ⟨Nat.le_of_ble_eq_true rfl, Nat.le_of_ble_eq_true rfl⟩ ⟨Nat.le_of_ble_eq_true rfl, Nat.le_of_ble_eq_true rfl⟩ (zRecv (q := (RX10, TX10, 29)) hz (zAt.mt 0 0 rfl rfl) rfl) rfl rfl (Nat.le_of_ble_eq_true rfl) dX10_voiced_12) (mM_f02 ad iv g sv w 0 hw (by decide) hK hs40 x) [0, 1, 2] rfl (by decide) rfl rfl ?_
  exact z_iret hQ hz hr hlk dX10_voiced_15 ⟨rfl, rfl⟩
set_option maxHeartbeats 400000 in
theorem mM_v2_1 {G : zG} (ad : Nat → Nat) (iv g : Nat → Int32) (sv : zV) (w : Nat) (hw : w < 12) (hK : g (152 + 4 * w) = nI 1) (hs40 : sv.2 ≤ 40) (x : Int32) : zMet G yX10_voiced (ws_ yX10_voiced cX10_voiced 3 (some .int)) (zRm 9 0 0 270) [.ref (ad 99), .int 2, .int x] [zO (ad 99) 10 (mFs ad (upd (upd iv 24 (nI w)) 23 (nI sv.2))), zI (G.2.2.1 0) (ad 0) 602 g, zI (G.2.2.1 0) (ad 22) 40 sv.1] (fun v9 b9 => v9 = some (.int (v2 (nI w) (g (152 + 4 * w + 1)) 1 x sv).1) ∧ b9 = [zO (ad 99) 10 (mFs ad (upd (upd iv 24 (nI w)) 23 (nI ((v2 (nI w) (g (152 + 4 * w + 1)) 1 x sv).2.2)))), zI (G.2.2.1 0) (ad 0) 602 g, zI (G.2.2.1 0) (ad 22) 40 ((v2 (nI w) (g (152 + 4 * w + 1)) 1 x sv).2.1)]) := by
  refine zMet.of (by decide +kernel) (Nat.le_of_ble_eq_true rfl) ?_
  intro p e s m args below meth c A hz hA hr hlk hnm9 Q hQ
  refine z_lv (lv' := [(0, .ref (ad 99)), (1, .int 2), (2, .int x)]) [0, 1, 2] rfl ?_
  refine z_aload_n hz dX10_voiced_0 0 rfl rfl ?_
  refine z_aload_n hz dX10_voiced_1 0 rfl rfl ?_
  refine z_aload_n hz dX10_voiced_2 0 rfl rfl ?_
  refine z_get (C := RX10) (T := TX10) (N := 29) hz in_X10 (zAt.mt 0 0 rfl rfl) rfl 24 (by decide) q1953 (fun _ h9 => h9) rfl dX10_voiced_3 ?_
  refine z_iconst hz 0 dX10_voiced_6 ki_0 ?_
  refine z_callRD (st2 := [.int (g (152 + 4 * w)), .ref (ad 99)]) hz zKp.mt (zk_V hz (rm := (zRm 0 0 0 0)) (As := [.int (nI w), .int 0]) (rest := [.ref (ad 99)]) 2 q2225 q2227 qs57 q95 q2228 (by decide +kernel) ⟨Nat.le_of_ble_eq_true rfl, Nat.le_of_ble_eq_true rfl⟩ ⟨Nat.le_of_ble_eq_true rfl, Nat.le_of_ble_eq_true rfl⟩ (zRecv (q := (RX10, TX10, 29)) hz (zAt.mt 0 0 rfl rfl) rfl) rfl rfl (Nat.le_of_ble_eq_true rfl) dX10_voiced_7) (mM_way2 ad (upd (upd iv 24 (nI w)) 23 (nI sv.2)) g w 0 (by omega)) (fun H9 L9 h9 => (zPc (zAt.mt 0 0 rfl rfl) h9 (zPc (zAt.mt 1 0 rfl rfl) h9 zP0))) rfl ?_
  refine z_top hK ?_
  refine z_top (y := 1) (by decide) ?_
  refine z_iload_n hz dX10_voiced_10 1 rfl rfl ?_
  refine z_iload_n hz dX10_voiced_11 2 rfl rfl ?_
  refine z_callD (bs2 := [zO (ad 99) 10 (mFs ad (upd (upd iv 24 (nI w)) 23 (nI ((b02 (g (152 + 4 * w + 1)) x sv).2.2)))), zI (G.2.2.1 0) (ad 0) 602 g, zI (G.2.2.1 0) (ad 22) 40 ((b02 (g (152 + 4 * w + 1)) x sv).2.1)]) (st2 := [.int ((b02 (g (152 + 4 * w + 1)) x sv).1)]) hz hA (zk_V hz (rm := (zRm 3 0 0 90)) (As := [.int 1, .int 2, .int x]) (rest := []) 3 q2433 q2435 qs75 q95 q2436 (by decide +kernel) ⟨Nat.le_of_ble_eq_true rfl, Nat.le_of_ble_eq_true rfl⟩ ⟨Nat.le_of_ble_eq_true rfl, Nat.le_of_ble_eq_true rfl⟩ (zRecv (q := (RX10, TX10, 29)) hz (zAt.mt 0 0 rfl rfl) rfl) rfl rfl (Nat.le_of_ble_eq_true rfl) dX10_voiced_12) (mM_f12 ad iv g sv w 1 hw (by decide) hK hs40 x) [0, 1, 2] rfl (by decide) rfl rfl ?_
  exact z_iret hQ hz hr hlk dX10_voiced_15 ⟨rfl, rfl⟩
set_option maxHeartbeats 400000 in
theorem mM_v2_2 {G : zG} (ad : Nat → Nat) (iv g : Nat → Int32) (sv : zV) (w : Nat) (hw : w < 12) (hK : g (152 + 4 * w) = nI 2) (hs40 : sv.2 ≤ 40) (x : Int32) : zMet G yX10_voiced (ws_ yX10_voiced cX10_voiced 3 (some .int)) (zRm 9 0 0 270) [.ref (ad 99), .int 2, .int x] [zO (ad 99) 10 (mFs ad (upd (upd iv 24 (nI w)) 23 (nI sv.2))), zI (G.2.2.1 0) (ad 0) 602 g, zI (G.2.2.1 0) (ad 22) 40 sv.1] (fun v9 b9 => v9 = some (.int (v2 (nI w) (g (152 + 4 * w + 1)) 2 x sv).1) ∧ b9 = [zO (ad 99) 10 (mFs ad (upd (upd iv 24 (nI w)) 23 (nI ((v2 (nI w) (g (152 + 4 * w + 1)) 2 x sv).2.2)))), zI (G.2.2.1 0) (ad 0) 602 g, zI (G.2.2.1 0) (ad 22) 40 ((v2 (nI w) (g (152 + 4 * w + 1)) 2 x sv).2.1)]) := by
  refine zMet.of (by decide +kernel) (Nat.le_of_ble_eq_true rfl) ?_
  intro p e s m args below meth c A hz hA hr hlk hnm9 Q hQ
  refine z_lv (lv' := [(0, .ref (ad 99)), (1, .int 2), (2, .int x)]) [0, 1, 2] rfl ?_
  refine z_aload_n hz dX10_voiced_0 0 rfl rfl ?_
  refine z_aload_n hz dX10_voiced_1 0 rfl rfl ?_
  refine z_aload_n hz dX10_voiced_2 0 rfl rfl ?_
  refine z_get (C := RX10) (T := TX10) (N := 29) hz in_X10 (zAt.mt 0 0 rfl rfl) rfl 24 (by decide) q1953 (fun _ h9 => h9) rfl dX10_voiced_3 ?_
  refine z_iconst hz 0 dX10_voiced_6 ki_0 ?_
  refine z_callRD (st2 := [.int (g (152 + 4 * w)), .ref (ad 99)]) hz zKp.mt (zk_V hz (rm := (zRm 0 0 0 0)) (As := [.int (nI w), .int 0]) (rest := [.ref (ad 99)]) 2 q2225 q2227 qs57 q95 q2228 (by decide +kernel) ⟨Nat.le_of_ble_eq_true rfl, Nat.le_of_ble_eq_true rfl⟩ ⟨Nat.le_of_ble_eq_true rfl, Nat.le_of_ble_eq_true rfl⟩ (zRecv (q := (RX10, TX10, 29)) hz (zAt.mt 0 0 rfl rfl) rfl) rfl rfl (Nat.le_of_ble_eq_true rfl) dX10_voiced_7) (mM_way2 ad (upd (upd iv 24 (nI w)) 23 (nI sv.2)) g w 0 (by omega)) (fun H9 L9 h9 => (zPc (zAt.mt 0 0 rfl rfl) h9 (zPc (zAt.mt 1 0 rfl rfl) h9 zP0))) rfl ?_
  refine z_top hK ?_
  refine z_top (y := 2) (by decide) ?_
  refine z_iload_n hz dX10_voiced_10 1 rfl rfl ?_
  refine z_iload_n hz dX10_voiced_11 2 rfl rfl ?_
  refine z_callD (bs2 := [zO (ad 99) 10 (mFs ad (upd (upd iv 24 (nI w)) 23 (nI ((b22 (g (152 + 4 * w + 1)) x sv).2.2)))), zI (G.2.2.1 0) (ad 0) 602 g, zI (G.2.2.1 0) (ad 22) 40 ((b22 (g (152 + 4 * w + 1)) x sv).2.1)]) (st2 := [.int ((b22 (g (152 + 4 * w + 1)) x sv).1)]) hz hA (zk_V hz (rm := (zRm 5 0 0 150)) (As := [.int 2, .int 2, .int x]) (rest := []) 3 q2433 q2435 qs75 q95 q2436 (by decide +kernel) ⟨Nat.le_of_ble_eq_true rfl, Nat.le_of_ble_eq_true rfl⟩ ⟨Nat.le_of_ble_eq_true rfl, Nat.le_of_ble_eq_true rfl⟩ (zRecv (q := (RX10, TX10, 29)) hz (zAt.mt 0 0 rfl rfl) rfl) rfl rfl (Nat.le_of_ble_eq_true rfl) dX10_voiced_12) (mM_f22 ad iv g sv w 2 hw (by decide) hK hs40 x) [0, 1, 2] rfl (by decide) rfl rfl ?_
  exact z_iret hQ hz hr hlk dX10_voiced_15 ⟨rfl, rfl⟩
set_option maxHeartbeats 400000 in
theorem mM_v2_3 {G : zG} (ad : Nat → Nat) (iv g : Nat → Int32) (sv : zV) (w : Nat) (hw : w < 12) (hK : g (152 + 4 * w) = nI 3) (hs40 : sv.2 ≤ 40) (x : Int32) : zMet G yX10_voiced (ws_ yX10_voiced cX10_voiced 3 (some .int)) (zRm 9 0 0 270) [.ref (ad 99), .int 2, .int x] [zO (ad 99) 10 (mFs ad (upd (upd iv 24 (nI w)) 23 (nI sv.2))), zI (G.2.2.1 0) (ad 0) 602 g, zI (G.2.2.1 0) (ad 22) 40 sv.1] (fun v9 b9 => v9 = some (.int (v2 (nI w) (g (152 + 4 * w + 1)) 3 x sv).1) ∧ b9 = [zO (ad 99) 10 (mFs ad (upd (upd iv 24 (nI w)) 23 (nI ((v2 (nI w) (g (152 + 4 * w + 1)) 3 x sv).2.2)))), zI (G.2.2.1 0) (ad 0) 602 g, zI (G.2.2.1 0) (ad 22) 40 ((v2 (nI w) (g (152 + 4 * w + 1)) 3 x sv).2.1)]) := by
  refine zMet.of (by decide +kernel) (Nat.le_of_ble_eq_true rfl) ?_
  intro p e s m args below meth c A hz hA hr hlk hnm9 Q hQ
  refine z_lv (lv' := [(0, .ref (ad 99)), (1, .int 2), (2, .int x)]) [0, 1, 2] rfl ?_
  refine z_aload_n hz dX10_voiced_0 0 rfl rfl ?_
  refine z_aload_n hz dX10_voiced_1 0 rfl rfl ?_
  refine z_aload_n hz dX10_voiced_2 0 rfl rfl ?_
  refine z_get (C := RX10) (T := TX10) (N := 29) hz in_X10 (zAt.mt 0 0 rfl rfl) rfl 24 (by decide) q1953 (fun _ h9 => h9) rfl dX10_voiced_3 ?_
  refine z_iconst hz 0 dX10_voiced_6 ki_0 ?_
  refine z_callRD (st2 := [.int (g (152 + 4 * w)), .ref (ad 99)]) hz zKp.mt (zk_V hz (rm := (zRm 0 0 0 0)) (As := [.int (nI w), .int 0]) (rest := [.ref (ad 99)]) 2 q2225 q2227 qs57 q95 q2228 (by decide +kernel) ⟨Nat.le_of_ble_eq_true rfl, Nat.le_of_ble_eq_true rfl⟩ ⟨Nat.le_of_ble_eq_true rfl, Nat.le_of_ble_eq_true rfl⟩ (zRecv (q := (RX10, TX10, 29)) hz (zAt.mt 0 0 rfl rfl) rfl) rfl rfl (Nat.le_of_ble_eq_true rfl) dX10_voiced_7) (mM_way2 ad (upd (upd iv 24 (nI w)) 23 (nI sv.2)) g w 0 (by omega)) (fun H9 L9 h9 => (zPc (zAt.mt 0 0 rfl rfl) h9 (zPc (zAt.mt 1 0 rfl rfl) h9 zP0))) rfl ?_
  refine z_top hK ?_
  refine z_top (y := 3) (by decide) ?_
  refine z_iload_n hz dX10_voiced_10 1 rfl rfl ?_
  refine z_iload_n hz dX10_voiced_11 2 rfl rfl ?_
  refine z_callD (bs2 := [zO (ad 99) 10 (mFs ad (upd (upd iv 24 (nI w)) 23 (nI ((b02 (g (152 + 4 * w + 1)) x sv).2.2)))), zI (G.2.2.1 0) (ad 0) 602 g, zI (G.2.2.1 0) (ad 22) 40 ((b02 (g (152 + 4 * w + 1)) x sv).2.1)]) (st2 := [.int ((b02 (g (152 + 4 * w + 1)) x sv).1)]) hz hA (zk_V hz (rm := (zRm 3 0 0 90)) (As := [.int 3, .int 2, .int x]) (rest := []) 3 q2433 q2435 qs75 q95 q2436 (by decide +kernel) ⟨Nat.le_of_ble_eq_true rfl, Nat.le_of_ble_eq_true rfl⟩ ⟨Nat.le_of_ble_eq_true rfl, Nat.le_of_ble_eq_true rfl⟩ (zRecv (q := (RX10, TX10, 29)) hz (zAt.mt 0 0 rfl rfl) rfl) rfl rfl (Nat.le_of_ble_eq_true rfl) dX10_voiced_12) (mM_f32 ad iv g sv w 3 hw (by decide) hK hs40 x) [0, 1, 2] rfl (by decide) rfl rfl ?_
  exact z_iret hQ hz hr hlk dX10_voiced_15 ⟨rfl, rfl⟩
set_option maxHeartbeats 400000 in
theorem mM_v2_4 {G : zG} (ad : Nat → Nat) (iv g : Nat → Int32) (sv : zV) (w : Nat) (hw : w < 12) (hK : g (152 + 4 * w) = nI 4) (hs40 : sv.2 ≤ 40) (x : Int32) : zMet G yX10_voiced (ws_ yX10_voiced cX10_voiced 3 (some .int)) (zRm 9 0 0 270) [.ref (ad 99), .int 2, .int x] [zO (ad 99) 10 (mFs ad (upd (upd iv 24 (nI w)) 23 (nI sv.2))), zI (G.2.2.1 0) (ad 0) 602 g, zI (G.2.2.1 0) (ad 22) 40 sv.1] (fun v9 b9 => v9 = some (.int (v2 (nI w) (g (152 + 4 * w + 1)) 4 x sv).1) ∧ b9 = [zO (ad 99) 10 (mFs ad (upd (upd iv 24 (nI w)) 23 (nI ((v2 (nI w) (g (152 + 4 * w + 1)) 4 x sv).2.2)))), zI (G.2.2.1 0) (ad 0) 602 g, zI (G.2.2.1 0) (ad 22) 40 ((v2 (nI w) (g (152 + 4 * w + 1)) 4 x sv).2.1)]) := by
  refine zMet.of (by decide +kernel) (Nat.le_of_ble_eq_true rfl) ?_
  intro p e s m args below meth c A hz hA hr hlk hnm9 Q hQ
  refine z_lv (lv' := [(0, .ref (ad 99)), (1, .int 2), (2, .int x)]) [0, 1, 2] rfl ?_
  refine z_aload_n hz dX10_voiced_0 0 rfl rfl ?_
  refine z_aload_n hz dX10_voiced_1 0 rfl rfl ?_
  refine z_aload_n hz dX10_voiced_2 0 rfl rfl ?_
  refine z_get (C := RX10) (T := TX10) (N := 29) hz in_X10 (zAt.mt 0 0 rfl rfl) rfl 24 (by decide) q1953 (fun _ h9 => h9) rfl dX10_voiced_3 ?_
  refine z_iconst hz 0 dX10_voiced_6 ki_0 ?_
  refine z_callRD (st2 := [.int (g (152 + 4 * w)), .ref (ad 99)]) hz zKp.mt (zk_V hz (rm := (zRm 0 0 0 0)) (As := [.int (nI w), .int 0]) (rest := [.ref (ad 99)]) 2 q2225 q2227 qs57 q95 q2228 (by decide +kernel) ⟨Nat.le_of_ble_eq_true rfl, Nat.le_of_ble_eq_true rfl⟩ ⟨Nat.le_of_ble_eq_true rfl, Nat.le_of_ble_eq_true rfl⟩ (zRecv (q := (RX10, TX10, 29)) hz (zAt.mt 0 0 rfl rfl) rfl) rfl rfl (Nat.le_of_ble_eq_true rfl) dX10_voiced_7) (mM_way2 ad (upd (upd iv 24 (nI w)) 23 (nI sv.2)) g w 0 (by omega)) (fun H9 L9 h9 => (zPc (zAt.mt 0 0 rfl rfl) h9 (zPc (zAt.mt 1 0 rfl rfl) h9 zP0))) rfl ?_
  refine z_top hK ?_
  refine z_top (y := 4) (by decide) ?_
  refine z_iload_n hz dX10_voiced_10 1 rfl rfl ?_
  refine z_iload_n hz dX10_voiced_11 2 rfl rfl ?_
  refine z_callD (bs2 := [zO (ad 99) 10 (mFs ad (upd (upd iv 24 (nI w)) 23 (nI ((b02 (g (152 + 4 * w + 1)) x sv).2.2)))), zI (G.2.2.1 0) (ad 0) 602 g, zI (G.2.2.1 0) (ad 22) 40 ((b02 (g (152 + 4 * w + 1)) x sv).2.1)]) (st2 := [.int ((b02 (g (152 + 4 * w + 1)) x sv).1)]) hz hA (zk_V hz (rm := (zRm 3 0 0 90)) (As := [.int 4, .int 2, .int x]) (rest := []) 3 q2433 q2435 qs75 q95 q2436 (by decide +kernel) ⟨Nat.le_of_ble_eq_true rfl, Nat.le_of_ble_eq_true rfl⟩ ⟨Nat.le_of_ble_eq_true rfl, Nat.le_of_ble_eq_true rfl⟩ (zRecv (q := (RX10, TX10, 29)) hz (zAt.mt 0 0 rfl rfl) rfl) rfl rfl (Nat.le_of_ble_eq_true rfl) dX10_voiced_12) (mM_f42 ad iv g sv w 4 hw (by decide) hK hs40 x) [0, 1, 2] rfl (by decide) rfl rfl ?_
  exact z_iret hQ hz hr hlk dX10_voiced_15 ⟨rfl, rfl⟩
set_option maxHeartbeats 400000 in
theorem mM_v2_5 {G : zG} (ad : Nat → Nat) (iv g : Nat → Int32) (sv : zV) (w : Nat) (hw : w < 12) (hK : g (152 + 4 * w) = nI 5) (hs40 : sv.2 ≤ 40) (x : Int32) : zMet G yX10_voiced (ws_ yX10_voiced cX10_voiced 3 (some .int)) (zRm 9 0 0 270) [.ref (ad 99), .int 2, .int x] [zO (ad 99) 10 (mFs ad (upd (upd iv 24 (nI w)) 23 (nI sv.2))), zI (G.2.2.1 0) (ad 0) 602 g, zI (G.2.2.1 0) (ad 22) 40 sv.1] (fun v9 b9 => v9 = some (.int (v2 (nI w) (g (152 + 4 * w + 1)) 5 x sv).1) ∧ b9 = [zO (ad 99) 10 (mFs ad (upd (upd iv 24 (nI w)) 23 (nI ((v2 (nI w) (g (152 + 4 * w + 1)) 5 x sv).2.2)))), zI (G.2.2.1 0) (ad 0) 602 g, zI (G.2.2.1 0) (ad 22) 40 ((v2 (nI w) (g (152 + 4 * w + 1)) 5 x sv).2.1)]) := by
  refine zMet.of (by decide +kernel) (Nat.le_of_ble_eq_true rfl) ?_
  intro p e s m args below meth c A hz hA hr hlk hnm9 Q hQ
  refine z_lv (lv' := [(0, .ref (ad 99)), (1, .int 2), (2, .int x)]) [0, 1, 2] rfl ?_
  refine z_aload_n hz dX10_voiced_0 0 rfl rfl ?_
  refine z_aload_n hz dX10_voiced_1 0 rfl rfl ?_
  refine z_aload_n hz dX10_voiced_2 0 rfl rfl ?_
  refine z_get (C := RX10) (T := TX10) (N := 29) hz in_X10 (zAt.mt 0 0 rfl rfl) rfl 24 (by decide) q1953 (fun _ h9 => h9) rfl dX10_voiced_3 ?_
  refine z_iconst hz 0 dX10_voiced_6 ki_0 ?_
  refine z_callRD (st2 := [.int (g (152 + 4 * w)), .ref (ad 99)]) hz zKp.mt (zk_V hz (rm := (zRm 0 0 0 0)) (As := [.int (nI w), .int 0]) (rest := [.ref (ad 99)]) 2 q2225 q2227 qs57 q95 q2228 (by decide +kernel) ⟨Nat.le_of_ble_eq_true rfl, Nat.le_of_ble_eq_true rfl⟩ ⟨Nat.le_of_ble_eq_true rfl, Nat.le_of_ble_eq_true rfl⟩ (zRecv (q := (RX10, TX10, 29)) hz (zAt.mt 0 0 rfl rfl) rfl) rfl rfl (Nat.le_of_ble_eq_true rfl) dX10_voiced_7) (mM_way2 ad (upd (upd iv 24 (nI w)) 23 (nI sv.2)) g w 0 (by omega)) (fun H9 L9 h9 => (zPc (zAt.mt 0 0 rfl rfl) h9 (zPc (zAt.mt 1 0 rfl rfl) h9 zP0))) rfl ?_
  refine z_top hK ?_
  refine z_top (y := 5) (by decide) ?_
  refine z_iload_n hz dX10_voiced_10 1 rfl rfl ?_
  refine z_iload_n hz dX10_voiced_11 2 rfl rfl ?_
  refine z_callD (bs2 := [zO (ad 99) 10 (mFs ad (upd (upd iv 24 (nI w)) 23 (nI ((b52 (nI w) (g (152 + 4 * w + 1)) x sv).2.2)))), zI (G.2.2.1 0) (ad 0) 602 g, zI (G.2.2.1 0) (ad 22) 40 ((b52 (nI w) (g (152 + 4 * w + 1)) x sv).2.1)]) (st2 := [.int ((b52 (nI w) (g (152 + 4 * w + 1)) x sv).1)]) hz hA (zk_V hz (rm := (zRm 5 0 0 150)) (As := [.int 5, .int 2, .int x]) (rest := []) 3 q2433 q2435 qs75 q95 q2436 (by decide +kernel) ⟨Nat.le_of_ble_eq_true rfl, Nat.le_of_ble_eq_true rfl⟩ ⟨Nat.le_of_ble_eq_true rfl, Nat.le_of_ble_eq_true rfl⟩ (zRecv (q := (RX10, TX10, 29)) hz (zAt.mt 0 0 rfl rfl) rfl) rfl rfl (Nat.le_of_ble_eq_true rfl) dX10_voiced_12) (mM_f52 ad iv g sv w 5 hw (by decide) hK hs40 x) [0, 1, 2] rfl (by decide) rfl rfl ?_
  exact z_iret hQ hz hr hlk dX10_voiced_15 ⟨rfl, rfl⟩
set_option maxHeartbeats 400000 in
theorem mM_v2_6 {G : zG} (ad : Nat → Nat) (iv g : Nat → Int32) (sv : zV) (w : Nat) (hw : w < 12) (hK : g (152 + 4 * w) = nI 6) (hs40 : sv.2 ≤ 40) (x : Int32) : zMet G yX10_voiced (ws_ yX10_voiced cX10_voiced 3 (some .int)) (zRm 9 0 0 270) [.ref (ad 99), .int 2, .int x] [zO (ad 99) 10 (mFs ad (upd (upd iv 24 (nI w)) 23 (nI sv.2))), zI (G.2.2.1 0) (ad 0) 602 g, zI (G.2.2.1 0) (ad 22) 40 sv.1] (fun v9 b9 => v9 = some (.int (v2 (nI w) (g (152 + 4 * w + 1)) 6 x sv).1) ∧ b9 = [zO (ad 99) 10 (mFs ad (upd (upd iv 24 (nI w)) 23 (nI ((v2 (nI w) (g (152 + 4 * w + 1)) 6 x sv).2.2)))), zI (G.2.2.1 0) (ad 0) 602 g, zI (G.2.2.1 0) (ad 22) 40 ((v2 (nI w) (g (152 + 4 * w + 1)) 6 x sv).2.1)]) := by
  refine zMet.of (by decide +kernel) (Nat.le_of_ble_eq_true rfl) ?_
  intro p e s m args below meth c A hz hA hr hlk hnm9 Q hQ
  refine z_lv (lv' := [(0, .ref (ad 99)), (1, .int 2), (2, .int x)]) [0, 1, 2] rfl ?_
  refine z_aload_n hz dX10_voiced_0 0 rfl rfl ?_
  refine z_aload_n hz dX10_voiced_1 0 rfl rfl ?_
  refine z_aload_n hz dX10_voiced_2 0 rfl rfl ?_
  refine z_get (C := RX10) (T := TX10) (N := 29) hz in_X10 (zAt.mt 0 0 rfl rfl) rfl 24 (by decide) q1953 (fun _ h9 => h9) rfl dX10_voiced_3 ?_
  refine z_iconst hz 0 dX10_voiced_6 ki_0 ?_
  refine z_callRD (st2 := [.int (g (152 + 4 * w)), .ref (ad 99)]) hz zKp.mt (zk_V hz (rm := (zRm 0 0 0 0)) (As := [.int (nI w), .int 0]) (rest := [.ref (ad 99)]) 2 q2225 q2227 qs57 q95 q2228 (by decide +kernel) ⟨Nat.le_of_ble_eq_true rfl, Nat.le_of_ble_eq_true rfl⟩ ⟨Nat.le_of_ble_eq_true rfl, Nat.le_of_ble_eq_true rfl⟩ (zRecv (q := (RX10, TX10, 29)) hz (zAt.mt 0 0 rfl rfl) rfl) rfl rfl (Nat.le_of_ble_eq_true rfl) dX10_voiced_7) (mM_way2 ad (upd (upd iv 24 (nI w)) 23 (nI sv.2)) g w 0 (by omega)) (fun H9 L9 h9 => (zPc (zAt.mt 0 0 rfl rfl) h9 (zPc (zAt.mt 1 0 rfl rfl) h9 zP0))) rfl ?_
  refine z_top hK ?_
  refine z_top (y := 6) (by decide) ?_
  refine z_iload_n hz dX10_voiced_10 1 rfl rfl ?_
  refine z_iload_n hz dX10_voiced_11 2 rfl rfl ?_
  refine z_callD (bs2 := [zO (ad 99) 10 (mFs ad (upd (upd iv 24 (nI w)) 23 (nI ((b02 (g (152 + 4 * w + 1)) x sv).2.2)))), zI (G.2.2.1 0) (ad 0) 602 g, zI (G.2.2.1 0) (ad 22) 40 ((b02 (g (152 + 4 * w + 1)) x sv).2.1)]) (st2 := [.int ((b02 (g (152 + 4 * w + 1)) x sv).1)]) hz hA (zk_V hz (rm := (zRm 3 0 0 90)) (As := [.int 6, .int 2, .int x]) (rest := []) 3 q2433 q2435 qs75 q95 q2436 (by decide +kernel) ⟨Nat.le_of_ble_eq_true rfl, Nat.le_of_ble_eq_true rfl⟩ ⟨Nat.le_of_ble_eq_true rfl, Nat.le_of_ble_eq_true rfl⟩ (zRecv (q := (RX10, TX10, 29)) hz (zAt.mt 0 0 rfl rfl) rfl) rfl rfl (Nat.le_of_ble_eq_true rfl) dX10_voiced_12) (mM_f62 ad iv g sv w 6 hw (by decide) hK hs40 x) [0, 1, 2] rfl (by decide) rfl rfl ?_
  exact z_iret hQ hz hr hlk dX10_voiced_15 ⟨rfl, rfl⟩
set_option maxHeartbeats 400000 in
theorem mM_v2_7 {G : zG} (ad : Nat → Nat) (iv g : Nat → Int32) (sv : zV) (w : Nat) (hw : w < 12) (hK : g (152 + 4 * w) = nI 7) (hs40 : sv.2 ≤ 40) (x : Int32) : zMet G yX10_voiced (ws_ yX10_voiced cX10_voiced 3 (some .int)) (zRm 9 0 0 270) [.ref (ad 99), .int 2, .int x] [zO (ad 99) 10 (mFs ad (upd (upd iv 24 (nI w)) 23 (nI sv.2))), zI (G.2.2.1 0) (ad 0) 602 g, zI (G.2.2.1 0) (ad 22) 40 sv.1] (fun v9 b9 => v9 = some (.int (v2 (nI w) (g (152 + 4 * w + 1)) 7 x sv).1) ∧ b9 = [zO (ad 99) 10 (mFs ad (upd (upd iv 24 (nI w)) 23 (nI ((v2 (nI w) (g (152 + 4 * w + 1)) 7 x sv).2.2)))), zI (G.2.2.1 0) (ad 0) 602 g, zI (G.2.2.1 0) (ad 22) 40 ((v2 (nI w) (g (152 + 4 * w + 1)) 7 x sv).2.1)]) := by
  refine zMet.of (by decide +kernel) (Nat.le_of_ble_eq_true rfl) ?_
  intro p e s m args below meth c A hz hA hr hlk hnm9 Q hQ
  refine z_lv (lv' := [(0, .ref (ad 99)), (1, .int 2), (2, .int x)]) [0, 1, 2] rfl ?_
  refine z_aload_n hz dX10_voiced_0 0 rfl rfl ?_
  refine z_aload_n hz dX10_voiced_1 0 rfl rfl ?_
  refine z_aload_n hz dX10_voiced_2 0 rfl rfl ?_
  refine z_get (C := RX10) (T := TX10) (N := 29) hz in_X10 (zAt.mt 0 0 rfl rfl) rfl 24 (by decide) q1953 (fun _ h9 => h9) rfl dX10_voiced_3 ?_
  refine z_iconst hz 0 dX10_voiced_6 ki_0 ?_
  refine z_callRD (st2 := [.int (g (152 + 4 * w)), .ref (ad 99)]) hz zKp.mt (zk_V hz (rm := (zRm 0 0 0 0)) (As := [.int (nI w), .int 0]) (rest := [.ref (ad 99)]) 2 q2225 q2227 qs57 q95 q2228 (by decide +kernel) ⟨Nat.le_of_ble_eq_true rfl, Nat.le_of_ble_eq_true rfl⟩ ⟨Nat.le_of_ble_eq_true rfl, Nat.le_of_ble_eq_true rfl⟩ (zRecv (q := (RX10, TX10, 29)) hz (zAt.mt 0 0 rfl rfl) rfl) rfl rfl (Nat.le_of_ble_eq_true rfl) dX10_voiced_7) (mM_way2 ad (upd (upd iv 24 (nI w)) 23 (nI sv.2)) g w 0 (by omega)) (fun H9 L9 h9 => (zPc (zAt.mt 0 0 rfl rfl) h9 (zPc (zAt.mt 1 0 rfl rfl) h9 zP0))) rfl ?_
  refine z_top hK ?_
  refine z_top (y := 7) (by decide) ?_
  refine z_iload_n hz dX10_voiced_10 1 rfl rfl ?_
  refine z_iload_n hz dX10_voiced_11 2 rfl rfl ?_
  refine z_callD (bs2 := [zO (ad 99) 10 (mFs ad (upd (upd iv 24 (nI w)) 23 (nI ((b72 (nI w) (g (152 + 4 * w + 1)) 7 x sv).2.2)))), zI (G.2.2.1 0) (ad 0) 602 g, zI (G.2.2.1 0) (ad 22) 40 ((b72 (nI w) (g (152 + 4 * w + 1)) 7 x sv).2.1)]) (st2 := [.int ((b72 (nI w) (g (152 + 4 * w + 1)) 7 x sv).1)]) hz hA (zk_V hz (rm := (zRm 8 0 0 240)) (As := [.int 7, .int 2, .int x]) (rest := []) 3 q2433 q2435 qs75 q95 q2436 (by decide +kernel) ⟨Nat.le_of_ble_eq_true rfl, Nat.le_of_ble_eq_true rfl⟩ ⟨Nat.le_of_ble_eq_true rfl, Nat.le_of_ble_eq_true rfl⟩ (zRecv (q := (RX10, TX10, 29)) hz (zAt.mt 0 0 rfl rfl) rfl) rfl rfl (Nat.le_of_ble_eq_true rfl) dX10_voiced_12) (mM_f72 ad iv g sv w 7 hw (by decide) hK hs40 x) [0, 1, 2] rfl (by decide) rfl rfl ?_
  exact z_iret hQ hz hr hlk dX10_voiced_15 ⟨rfl, rfl⟩
theorem mM_v2 {G : zG} (ad : Nat → Nat) (iv g : Nat → Int32) (sv : zV) (w K : Nat) (hw : w < 12) (hK8 : K < 8) (hK : g (152 + 4 * w) = nI K) (hs40 : sv.2 ≤ 40) (x : Int32) : zMet G yX10_voiced (ws_ yX10_voiced cX10_voiced 3 (some .int)) (zRm 9 0 0 270) [.ref (ad 99), .int 2, .int x] [zO (ad 99) 10 (mFs ad (upd (upd iv 24 (nI w)) 23 (nI sv.2))), zI (G.2.2.1 0) (ad 0) 602 g, zI (G.2.2.1 0) (ad 22) 40 sv.1] (fun v9 b9 => v9 = some (.int (v2 (nI w) (g (152 + 4 * w + 1)) K x sv).1) ∧ b9 = [zO (ad 99) 10 (mFs ad (upd (upd iv 24 (nI w)) 23 (nI ((v2 (nI w) (g (152 + 4 * w + 1)) K x sv).2.2)))), zI (G.2.2.1 0) (ad 0) 602 g, zI (G.2.2.1 0) (ad 22) 40 ((v2 (nI w) (g (152 + 4 * w + 1)) K x sv).2.1)]) := by
  have h8 : K = 0 ∨ K = 1 ∨ K = 2 ∨ K = 3 ∨ K = 4 ∨ K = 5 ∨ K = 6 ∨ K = 7 := by omega
  rcases h8 with e8 | e8 | e8 | e8 | e8 | e8 | e8 | e8 <;> subst e8
  · exact mM_v2_0 ad iv g sv w hw hK hs40 x
  · exact mM_v2_1 ad iv g sv w hw hK hs40 x
  · exact mM_v2_2 ad iv g sv w hw hK hs40 x
  · exact mM_v2_3 ad iv g sv w hw hK hs40 x
  · exact mM_v2_4 ad iv g sv w hw hK hs40 x
  · exact mM_v2_5 ad iv g sv w hw hK hs40 x
  · exact mM_v2_6 ad iv g sv w hw hK hs40 x
  · exact mM_v2_7 ad iv g sv w hw hK hs40 x
set_option maxHeartbeats 400000 in
theorem mM_b01 {G : zG} (ad : Nat → Nat) (iv g : Nat → Int32) (sv : zV) (w K : Nat) (hw : w < 12) (hK8 : K < 8) (hK : g (152 + 4 * w) = nI K) (hs40 : sv.2 ≤ 40) (x : Int32) : zMet G yX10_body (ws_ yX10_body cX10_body 5 (some .int)) (zRm 7 0 0 210) [.ref (ad 99), .int 0, .int 1, .int x] [zO (ad 99) 10 (mFs ad (upd (upd iv 24 (nI w)) 23 (nI sv.2))), zI (G.2.2.1 0) (ad 0) 602 g, zI (G.2.2.1 0) (ad 22) 40 sv.1] (fun v9 b9 => v9 = some (.int (b01 (nI w) K x sv).1) ∧ b9 = [zO (ad 99) 10 (mFs ad (upd (upd iv 24 (nI w)) 23 (nI ((b01 (nI w) K x sv).2.2)))), zI (G.2.2.1 0) (ad 0) 602 g, zI (G.2.2.1 0) (ad 22) 40 ((b01 (nI w) K x sv).2.1)]) := by
  refine zMet.of (by decide +kernel) (Nat.le_of_ble_eq_true rfl) ?_
  intro p e s m args below meth c A hz hA hr hlk hnm9 Q hQ
  refine z_lv (lv' := [(0, .ref (ad 99)), (1, .int 0), (2, .int 1), (3, .int x)]) [0, 1, 2, 3] rfl ?_
  refine z_iconst hz 4 dX10_body_0 ki_4 ?_
  refine z_iload_n hz dX10_body_1 1 rfl rfl ?_
  refine z_imul hz dX10_body_2 ?_
  refine z_top (y := 0) (by decide) ?_
  refine z_iload_n hz dX10_body_3 2 rfl rfl ?_
  refine z_iadd hz dX10_body_4 ?_
  refine z_top (y := 1) (by decide) ?_
  refine z_tabIn hz 140 145 dX10_body_5 (by decide) (by decide) (by decide) (by decide) ?_
  refine z_aload_n hz dX10_body_145 0 rfl rfl ?_
  refine z_bipush hz 11 dX10_body_146 kb_11 ?_
  refine z_callD (bs2 := [zO (ad 99) 10 (mFs ad (upd (upd iv 24 (nI w)) 23 (nI ((bgF 11 sv).2)))), zI (G.2.2.1 0) (ad 0) 602 g, zI (G.2.2.1 0) (ad 22) 40 ((bgF 11 sv).1)]) (st2 := []) hz hA (zk_V hz (rm := (zRm 0 0 0 0)) (As := [.int 11]) (rest := []) 1 q2444 q2446 qs77 q95 q2447 (by decide +kernel) ⟨Nat.le_of_ble_eq_true rfl, Nat.le_of_ble_eq_true rfl⟩ ⟨Nat.le_of_ble_eq_true rfl, Nat.le_of_ble_eq_true rfl⟩ (zRecv (q := (RX10, TX10, 29)) hz (zAt.mt 0 0 rfl rfl) rfl) rfl rfl (Nat.le_of_ble_eq_true rfl) dX10_body_148) (mM_began ad iv sv w 11 hs40) [0, 2] rfl (by decide) rfl rfl ?_
  refine z_aload_n hz dX10_body_151 0 rfl rfl ?_
  refine z_iconst hz 0 dX10_body_152 ki_0 ?_
  refine z_iload_n hz dX10_body_153 3 rfl rfl ?_
  refine z_callD (bs2 := [zO (ad 99) 10 (mFs ad (upd (upd iv 24 (nI w)) 23 (nI ((v0 (nI w) K x (bgF 11 sv)).2.2)))), zI (G.2.2.1 0) (ad 0) 602 g, zI (G.2.2.1 0) (ad 22) 40 ((v0 (nI w) K x (bgF 11 sv)).2.1)]) (st2 := [.int ((v0 (nI w) K x (bgF 11 sv)).1)]) hz hA (zk_V hz (rm := (zRm 6 0 0 180)) (As := [.int 0, .int x]) (rest := []) 2 q2429 q2431 qs74 q95 q2432 (by decide +kernel) ⟨Nat.le_of_ble_eq_true rfl, Nat.le_of_ble_eq_true rfl⟩ ⟨Nat.le_of_ble_eq_true rfl, Nat.le_of_ble_eq_true rfl⟩ (zRecv (q := (RX10, TX10, 29)) hz (zAt.mt 0 0 rfl rfl) rfl) rfl rfl (Nat.le_of_ble_eq_true rfl) dX10_body_154) (mM_v0 ad iv g (bgF 11 sv) w K hw hK8 hK (bgF_le hs40) x) [0, 1, 2] rfl (by decide) rfl rfl ?_
  refine z_iconst hz 2 dX10_body_157 ki_2 ?_
  refine z_imul hz dX10_body_158 ?_
  exact z_iret hQ hz hr hlk dX10_body_159 ⟨rfl, rfl⟩
set_option maxHeartbeats 400000 in
theorem mM_f01 {G : zG} (ad : Nat → Nat) (iv g : Nat → Int32) (sv : zV) (w K : Nat) (hw : w < 12) (hK8 : K < 8) (hK : g (152 + 4 * w) = nI K) (hs40 : sv.2 ≤ 40) (x : Int32) : zMet G yX10_bodyFrom (ws_ yX10_bodyFrom cX10_bodyFrom 5 (some .int)) (zRm 8 0 0 240) [.ref (ad 99), .int 0, .int 1, .int x] [zO (ad 99) 10 (mFs ad (upd (upd iv 24 (nI w)) 23 (nI sv.2))), zI (G.2.2.1 0) (ad 0) 602 g, zI (G.2.2.1 0) (ad 22) 40 sv.1] (fun v9 b9 => v9 = some (.int (b01 (nI w) K x sv).1) ∧ b9 = [zO (ad 99) 10 (mFs ad (upd (upd iv 24 (nI w)) 23 (nI ((b01 (nI w) K x sv).2.2)))), zI (G.2.2.1 0) (ad 0) 602 g, zI (G.2.2.1 0) (ad 22) 40 ((b01 (nI w) K x sv).2.1)]) := by
  refine zMet.of (by decide +kernel) (Nat.le_of_ble_eq_true rfl) ?_
  intro p e s m args below meth c A hz hA hr hlk hnm9 Q hQ
  refine z_lv (lv' := [(0, .ref (ad 99)), (1, .int 0), (2, .int 1), (3, .int x)]) [0, 1, 2, 3] rfl ?_
  refine z_iload_n hz dX10_bodyFrom_0 1 rfl rfl ?_
  refine z_istore (lv' := [(0, .ref (ad 99)), (1, .int 0), (2, .int 1), (3, .int x), (4, .int 0)]) hz [1, 2, 3, 4, 0] dX10_bodyFrom_1 (by decide) rfl ?_
  refine z_iload hz dX10_bodyFrom_3 4 rfl ?_
  refine z_iload_n hz dX10_bodyFrom_5 2 rfl rfl ?_
  refine z_callRD (st2 := [.int (zB (ownP 0 1))]) hz zKp.mt (zk_S hz (rm := (zRm 0 0 0 0)) (As := [.int 0, .int 1]) (rest := []) 2 q2437 q2438 q95 q2439 (by decide +kernel) ⟨Nat.le_of_ble_eq_true rfl, Nat.le_of_ble_eq_true rfl⟩ ⟨Nat.le_of_ble_eq_true rfl, Nat.le_of_ble_eq_true rfl⟩ rfl rfl (Nat.le_of_ble_eq_true rfl) dX10_bodyFrom_6) (mM_hasOwn 0 1 (by decide) (by decide)) (fun _ _ _ => zP0) rfl ?_
  refine z_ifB_neT hz 22 dX10_bodyFrom_9 (by decide) (by decide) ?_
  refine z_aload_n hz dX10_bodyFrom_22 0 rfl rfl ?_
  refine z_iload hz dX10_bodyFrom_23 4 rfl ?_
  refine z_iload_n hz dX10_bodyFrom_25 2 rfl rfl ?_
  refine z_iload_n hz dX10_bodyFrom_26 3 rfl rfl ?_
  refine z_callD (bs2 := [zO (ad 99) 10 (mFs ad (upd (upd iv 24 (nI w)) 23 (nI ((b01 (nI w) K x sv).2.2)))), zI (G.2.2.1 0) (ad 0) 602 g, zI (G.2.2.1 0) (ad 22) 40 ((b01 (nI w) K x sv).2.1)]) (st2 := [.int ((b01 (nI w) K x sv).1)]) hz hA (zk_V hz (rm := (zRm 7 0 0 210)) (As := [.int 0, .int 1, .int x]) (rest := []) 3 q2440 q2442 qs76 q95 q2443 (by decide +kernel) ⟨Nat.le_of_ble_eq_true rfl, Nat.le_of_ble_eq_true rfl⟩ ⟨Nat.le_of_ble_eq_true rfl, Nat.le_of_ble_eq_true rfl⟩ (zRecv (q := (RX10, TX10, 29)) hz (zAt.mt 0 0 rfl rfl) rfl) rfl rfl (Nat.le_of_ble_eq_true rfl) dX10_bodyFrom_27) (mM_b01 ad iv g sv w K hw hK8 hK hs40 x) [0, 1, 2] rfl (by decide) rfl rfl ?_
  exact z_iret hQ hz hr hlk dX10_bodyFrom_30 ⟨rfl, rfl⟩
set_option maxHeartbeats 400000 in
theorem mM_b11 {G : zG} (ad : Nat → Nat) (iv g : Nat → Int32) (sv : zV) (w K : Nat) (hw : w < 12) (hK8 : K < 8) (hK : g (152 + 4 * w) = nI K) (hs40 : sv.2 ≤ 40) (x : Int32) : zMet G yX10_body (ws_ yX10_body cX10_body 5 (some .int)) (zRm 10 0 0 300) [.ref (ad 99), .int 1, .int 1, .int x] [zO (ad 99) 10 (mFs ad (upd (upd iv 24 (nI w)) 23 (nI sv.2))), zI (G.2.2.1 0) (ad 0) 602 g, zI (G.2.2.1 0) (ad 22) 40 sv.1] (fun v9 b9 => v9 = some (.int (b11 (nI w) (g (152 + 4 * w + 1)) K x sv).1) ∧ b9 = [zO (ad 99) 10 (mFs ad (upd (upd iv 24 (nI w)) 23 (nI ((b11 (nI w) (g (152 + 4 * w + 1)) K x sv).2.2)))), zI (G.2.2.1 0) (ad 0) 602 g, zI (G.2.2.1 0) (ad 22) 40 ((b11 (nI w) (g (152 + 4 * w + 1)) K x sv).2.1)]) := by
  refine zMet.of (by decide +kernel) (Nat.le_of_ble_eq_true rfl) ?_
  intro p e s m args below meth c A hz hA hr hlk hnm9 Q hQ
  refine z_lv (lv' := [(0, .ref (ad 99)), (1, .int 1), (2, .int 1), (3, .int x)]) [0, 1, 2, 3] rfl ?_
  refine z_iconst hz 4 dX10_body_0 ki_4 ?_
  refine z_iload_n hz dX10_body_1 1 rfl rfl ?_
  refine z_imul hz dX10_body_2 ?_
  refine z_top (y := 4) (by decide) ?_
  refine z_iload_n hz dX10_body_3 2 rfl rfl ?_
  refine z_iadd hz dX10_body_4 ?_
  refine z_top (y := 5) (by decide) ?_
  refine z_tabIn hz 197 202 dX10_body_5 (by decide) (by decide) (by decide) (by decide) ?_
  refine z_aload_n hz dX10_body_202 0 rfl rfl ?_
  refine z_bipush hz 20 dX10_body_203 kb_20 ?_
  refine z_callD (bs2 := [zO (ad 99) 10 (mFs ad (upd (upd iv 24 (nI w)) 23 (nI ((bgF 20 sv).2)))), zI (G.2.2.1 0) (ad 0) 602 g, zI (G.2.2.1 0) (ad 22) 40 ((bgF 20 sv).1)]) (st2 := []) hz hA (zk_V hz (rm := (zRm 0 0 0 0)) (As := [.int 20]) (rest := []) 1 q2444 q2446 qs77 q95 q2447 (by decide +kernel) ⟨Nat.le_of_ble_eq_true rfl, Nat.le_of_ble_eq_true rfl⟩ ⟨Nat.le_of_ble_eq_true rfl, Nat.le_of_ble_eq_true rfl⟩ (zRecv (q := (RX10, TX10, 29)) hz (zAt.mt 0 0 rfl rfl) rfl) rfl rfl (Nat.le_of_ble_eq_true rfl) dX10_body_205) (mM_began ad iv sv w 20 hs40) [0, 2] rfl (by decide) rfl rfl ?_
  refine z_aload_n hz dX10_body_208 0 rfl rfl ?_
  refine z_iconst hz 0 dX10_body_209 ki_0 ?_
  refine z_iconst hz 1 dX10_body_210 ki_1 ?_
  refine z_iload_n hz dX10_body_211 3 rfl rfl ?_
  refine z_callD (bs2 := [zO (ad 99) 10 (mFs ad (upd (upd iv 24 (nI w)) 23 (nI ((b01 (nI w) K x (bgF 20 sv)).2.2)))), zI (G.2.2.1 0) (ad 0) 602 g, zI (G.2.2.1 0) (ad 22) 40 ((b01 (nI w) K x (bgF 20 sv)).2.1)]) (st2 := [.int ((b01 (nI w) K x (bgF 20 sv)).1)]) hz hA (zk_V hz (rm := (zRm 8 0 0 240)) (As := [.int 0, .int 1, .int x]) (rest := []) 3 q2433 q2435 qs75 q95 q2436 (by decide +kernel) ⟨Nat.le_of_ble_eq_true rfl, Nat.le_of_ble_eq_true rfl⟩ ⟨Nat.le_of_ble_eq_true rfl, Nat.le_of_ble_eq_true rfl⟩ (zRecv (q := (RX10, TX10, 29)) hz (zAt.mt 0 0 rfl rfl) rfl) rfl rfl (Nat.le_of_ble_eq_true rfl) dX10_body_212) (mM_f01 ad iv g (bgF 20 sv) w K hw hK8 hK (bgF_le hs40) x) [0, 1, 2] rfl (by decide) rfl rfl ?_
  refine z_istore (lv' := [(0, .ref (ad 99)), (1, .int 1), (2, .int 1), (3, .int x), (4, .int ((b01 (nI w) K x (bgF 20 sv)).1))]) hz [1, 2, 3, 4, 0] dX10_body_215 (by decide) rfl ?_
  refine z_iload hz dX10_body_217 4 rfl ?_
  refine z_aload_n hz dX10_body_219 0 rfl rfl ?_
  refine z_iconst hz 2 dX10_body_220 ki_2 ?_
  refine z_iconst hz 1 dX10_body_221 ki_1 ?_
  refine z_callD (bs2 := [zO (ad 99) 10 (mFs ad (upd (upd iv 24 (nI w)) 23 (nI ((v2 (nI w) (g (152 + 4 * w + 1)) K 1 (b01 (nI w) K x (bgF 20 sv)).2).2.2)))), zI (G.2.2.1 0) (ad 0) 602 g, zI (G.2.2.1 0) (ad 22) 40 ((v2 (nI w) (g (152 + 4 * w + 1)) K 1 (b01 (nI w) K x (bgF 20 sv)).2).2.1)]) (st2 := [.int ((v2 (nI w) (g (152 + 4 * w + 1)) K 1 (b01 (nI w) K x (bgF 20 sv)).2).1), .int ((b01 (nI w) K x (bgF 20 sv)).1)]) hz hA (zk_V hz (rm := (zRm 9 0 0 270)) (As := [.int 2, .int 1]) (rest := [.int ((b01 (nI w) K x (bgF 20 sv)).1)]) 2 q2429 q2431 qs74 q95 q2432 (by decide +kernel) ⟨Nat.le_of_ble_eq_true rfl, Nat.le_of_ble_eq_true rfl⟩ ⟨Nat.le_of_ble_eq_true rfl, Nat.le_of_ble_eq_true rfl⟩ (zRecv (q := (RX10, TX10, 29)) hz (zAt.mt 0 0 rfl rfl) rfl) rfl rfl (Nat.le_of_ble_eq_true rfl) dX10_body_222) (mM_v2 ad iv g (b01 (nI w) K x (bgF 20 sv)).2 w K hw hK8 hK (b01_le (bgF_le hs40)) 1) [0, 1, 2] rfl (by decide) rfl rfl ?_
  refine z_iadd hz dX10_body_225 ?_
  exact z_iret hQ hz hr hlk dX10_body_226 ⟨rfl, rfl⟩
set_option maxHeartbeats 400000 in
theorem mM_f11 {G : zG} (ad : Nat → Nat) (iv g : Nat → Int32) (sv : zV) (w K : Nat) (hw : w < 12) (hK8 : K < 8) (hK : g (152 + 4 * w) = nI K) (hs40 : sv.2 ≤ 40) (x : Int32) : zMet G yX10_bodyFrom (ws_ yX10_bodyFrom cX10_bodyFrom 5 (some .int)) (zRm 11 0 0 330) [.ref (ad 99), .int 1, .int 1, .int x] [zO (ad 99) 10 (mFs ad (upd (upd iv 24 (nI w)) 23 (nI sv.2))), zI (G.2.2.1 0) (ad 0) 602 g, zI (G.2.2.1 0) (ad 22) 40 sv.1] (fun v9 b9 => v9 = some (.int (b11 (nI w) (g (152 + 4 * w + 1)) K x sv).1) ∧ b9 = [zO (ad 99) 10 (mFs ad (upd (upd iv 24 (nI w)) 23 (nI ((b11 (nI w) (g (152 + 4 * w + 1)) K x sv).2.2)))), zI (G.2.2.1 0) (ad 0) 602 g, zI (G.2.2.1 0) (ad 22) 40 ((b11 (nI w) (g (152 + 4 * w + 1)) K x sv).2.1)]) := by
  refine zMet.of (by decide +kernel) (Nat.le_of_ble_eq_true rfl) ?_
  intro p e s m args below meth c A hz hA hr hlk hnm9 Q hQ
  refine z_lv (lv' := [(0, .ref (ad 99)), (1, .int 1), (2, .int 1), (3, .int x)]) [0, 1, 2, 3] rfl ?_
  refine z_iload_n hz dX10_bodyFrom_0 1 rfl rfl ?_
  refine z_istore (lv' := [(0, .ref (ad 99)), (1, .int 1), (2, .int 1), (3, .int x), (4, .int 1)]) hz [1, 2, 3, 4, 0] dX10_bodyFrom_1 (by decide) rfl ?_
  refine z_iload hz dX10_bodyFrom_3 4 rfl ?_
  refine z_iload_n hz dX10_bodyFrom_5 2 rfl rfl ?_
  refine z_callRD (st2 := [.int (zB (ownP 1 1))]) hz zKp.mt (zk_S hz (rm := (zRm 0 0 0 0)) (As := [.int 1, .int 1]) (rest := []) 2 q2437 q2438 q95 q2439 (by decide +kernel) ⟨Nat.le_of_ble_eq_true rfl, Nat.le_of_ble_eq_true rfl⟩ ⟨Nat.le_of_ble_eq_true rfl, Nat.le_of_ble_eq_true rfl⟩ rfl rfl (Nat.le_of_ble_eq_true rfl) dX10_bodyFrom_6) (mM_hasOwn 1 1 (by decide) (by decide)) (fun _ _ _ => zP0) rfl ?_
  refine z_ifB_neT hz 22 dX10_bodyFrom_9 (by decide) (by decide) ?_
  refine z_aload_n hz dX10_bodyFrom_22 0 rfl rfl ?_
  refine z_iload hz dX10_bodyFrom_23 4 rfl ?_
  refine z_iload_n hz dX10_bodyFrom_25 2 rfl rfl ?_
  refine z_iload_n hz dX10_bodyFrom_26 3 rfl rfl ?_
  refine z_callD (bs2 := [zO (ad 99) 10 (mFs ad (upd (upd iv 24 (nI w)) 23 (nI ((b11 (nI w) (g (152 + 4 * w + 1)) K x sv).2.2)))), zI (G.2.2.1 0) (ad 0) 602 g, zI (G.2.2.1 0) (ad 22) 40 ((b11 (nI w) (g (152 + 4 * w + 1)) K x sv).2.1)]) (st2 := [.int ((b11 (nI w) (g (152 + 4 * w + 1)) K x sv).1)]) hz hA (zk_V hz (rm := (zRm 10 0 0 300)) (As := [.int 1, .int 1, .int x]) (rest := []) 3 q2440 q2442 qs76 q95 q2443 (by decide +kernel) ⟨Nat.le_of_ble_eq_true rfl, Nat.le_of_ble_eq_true rfl⟩ ⟨Nat.le_of_ble_eq_true rfl, Nat.le_of_ble_eq_true rfl⟩ (zRecv (q := (RX10, TX10, 29)) hz (zAt.mt 0 0 rfl rfl) rfl) rfl rfl (Nat.le_of_ble_eq_true rfl) dX10_bodyFrom_27) (mM_b11 ad iv g sv w K hw hK8 hK hs40 x) [0, 1, 2] rfl (by decide) rfl rfl ?_
  exact z_iret hQ hz hr hlk dX10_bodyFrom_30 ⟨rfl, rfl⟩
set_option maxHeartbeats 400000 in
theorem mM_b31 {G : zG} (ad : Nat → Nat) (iv g : Nat → Int32) (sv : zV) (w K : Nat) (hw : w < 12) (hK8 : K < 8) (hK : g (152 + 4 * w) = nI K) (hs40 : sv.2 ≤ 40) (x : Int32) : zMet G yX10_body (ws_ yX10_body cX10_body 5 (some .int)) (zRm 12 0 0 360) [.ref (ad 99), .int 3, .int 1, .int x] [zO (ad 99) 10 (mFs ad (upd (upd iv 24 (nI w)) 23 (nI sv.2))), zI (G.2.2.1 0) (ad 0) 602 g, zI (G.2.2.1 0) (ad 22) 40 sv.1] (fun v9 b9 => v9 = some (.int (b31 (nI w) (g (152 + 4 * w + 1)) K x sv).1) ∧ b9 = [zO (ad 99) 10 (mFs ad (upd (upd iv 24 (nI w)) 23 (nI ((b31 (nI w) (g (152 + 4 * w + 1)) K x sv).2.2)))), zI (G.2.2.1 0) (ad 0) 602 g, zI (G.2.2.1 0) (ad 22) 40 ((b31 (nI w) (g (152 + 4 * w + 1)) K x sv).2.1)]) := by
  refine zMet.of (by decide +kernel) (Nat.le_of_ble_eq_true rfl) ?_
  intro p e s m args below meth c A hz hA hr hlk hnm9 Q hQ
  refine z_lv (lv' := [(0, .ref (ad 99)), (1, .int 3), (2, .int 1), (3, .int x)]) [0, 1, 2, 3] rfl ?_
  refine z_iconst hz 4 dX10_body_0 ki_4 ?_
  refine z_iload_n hz dX10_body_1 1 rfl rfl ?_
  refine z_imul hz dX10_body_2 ?_
  refine z_top (y := 12) (by decide) ?_
  refine z_iload_n hz dX10_body_3 2 rfl rfl ?_
  refine z_iadd hz dX10_body_4 ?_
  refine z_top (y := 13) (by decide) ?_
  refine z_tabIn hz 254 259 dX10_body_5 (by decide) (by decide) (by decide) (by decide) ?_
  refine z_aload_n hz dX10_body_259 0 rfl rfl ?_
  refine z_bipush hz 41 dX10_body_260 kb_41 ?_
  refine z_callD (bs2 := [zO (ad 99) 10 (mFs ad (upd (upd iv 24 (nI w)) 23 (nI ((bgF 41 sv).2)))), zI (G.2.2.1 0) (ad 0) 602 g, zI (G.2.2.1 0) (ad 22) 40 ((bgF 41 sv).1)]) (st2 := []) hz hA (zk_V hz (rm := (zRm 0 0 0 0)) (As := [.int 41]) (rest := []) 1 q2444 q2446 qs77 q95 q2447 (by decide +kernel) ⟨Nat.le_of_ble_eq_true rfl, Nat.le_of_ble_eq_true rfl⟩ ⟨Nat.le_of_ble_eq_true rfl, Nat.le_of_ble_eq_true rfl⟩ (zRecv (q := (RX10, TX10, 29)) hz (zAt.mt 0 0 rfl rfl) rfl) rfl rfl (Nat.le_of_ble_eq_true rfl) dX10_body_262) (mM_began ad iv sv w 41 hs40) [0, 2] rfl (by decide) rfl rfl ?_
  refine z_aload_n hz dX10_body_265 0 rfl rfl ?_
  refine z_iconst hz 1 dX10_body_266 ki_1 ?_
  refine z_iconst hz 1 dX10_body_267 ki_1 ?_
  refine z_iload_n hz dX10_body_268 3 rfl rfl ?_
  refine z_iconst hz 2 dX10_body_269 ki_2 ?_
  refine z_iadd hz dX10_body_270 ?_
  refine z_callD (bs2 := [zO (ad 99) 10 (mFs ad (upd (upd iv 24 (nI w)) 23 (nI ((b11 (nI w) (g (152 + 4 * w + 1)) K (x + 2) (bgF 41 sv)).2.2)))), zI (G.2.2.1 0) (ad 0) 602 g, zI (G.2.2.1 0) (ad 22) 40 ((b11 (nI w) (g (152 + 4 * w + 1)) K (x + 2) (bgF 41 sv)).2.1)]) (st2 := [.int ((b11 (nI w) (g (152 + 4 * w + 1)) K (x + 2) (bgF 41 sv)).1)]) hz hA (zk_V hz (rm := (zRm 11 0 0 330)) (As := [.int 1, .int 1, .int (x + 2)]) (rest := []) 3 q2433 q2435 qs75 q95 q2436 (by decide +kernel) ⟨Nat.le_of_ble_eq_true rfl, Nat.le_of_ble_eq_true rfl⟩ ⟨Nat.le_of_ble_eq_true rfl, Nat.le_of_ble_eq_true rfl⟩ (zRecv (q := (RX10, TX10, 29)) hz (zAt.mt 0 0 rfl rfl) rfl) rfl rfl (Nat.le_of_ble_eq_true rfl) dX10_body_271) (mM_f11 ad iv g (bgF 41 sv) w K hw hK8 hK (bgF_le hs40) (x + 2)) [0, 1, 2] rfl (by decide) rfl rfl ?_
  exact z_iret hQ hz hr hlk dX10_body_274 ⟨rfl, rfl⟩
set_option maxHeartbeats 400000 in
theorem mM_f21 {G : zG} (ad : Nat → Nat) (iv g : Nat → Int32) (sv : zV) (w K : Nat) (hw : w < 12) (hK8 : K < 8) (hK : g (152 + 4 * w) = nI K) (hs40 : sv.2 ≤ 40) (x : Int32) : zMet G yX10_bodyFrom (ws_ yX10_bodyFrom cX10_bodyFrom 5 (some .int)) (zRm 8 0 0 240) [.ref (ad 99), .int 2, .int 1, .int x] [zO (ad 99) 10 (mFs ad (upd (upd iv 24 (nI w)) 23 (nI sv.2))), zI (G.2.2.1 0) (ad 0) 602 g, zI (G.2.2.1 0) (ad 22) 40 sv.1] (fun v9 b9 => v9 = some (.int (b01 (nI w) K x sv).1) ∧ b9 = [zO (ad 99) 10 (mFs ad (upd (upd iv 24 (nI w)) 23 (nI ((b01 (nI w) K x sv).2.2)))), zI (G.2.2.1 0) (ad 0) 602 g, zI (G.2.2.1 0) (ad 22) 40 ((b01 (nI w) K x sv).2.1)]) := by
  refine zMet.of (by decide +kernel) (Nat.le_of_ble_eq_true rfl) ?_
  intro p e s m args below meth c A hz hA hr hlk hnm9 Q hQ
  refine z_lv (lv' := [(0, .ref (ad 99)), (1, .int 2), (2, .int 1), (3, .int x)]) [0, 1, 2, 3] rfl ?_
  refine z_iload_n hz dX10_bodyFrom_0 1 rfl rfl ?_
  refine z_istore (lv' := [(0, .ref (ad 99)), (1, .int 2), (2, .int 1), (3, .int x), (4, .int 2)]) hz [1, 2, 3, 4, 0] dX10_bodyFrom_1 (by decide) rfl ?_
  refine z_iload hz dX10_bodyFrom_3 4 rfl ?_
  refine z_iload_n hz dX10_bodyFrom_5 2 rfl rfl ?_
  refine z_callRD (st2 := [.int (zB (ownP 2 1))]) hz zKp.mt (zk_S hz (rm := (zRm 0 0 0 0)) (As := [.int 2, .int 1]) (rest := []) 2 q2437 q2438 q95 q2439 (by decide +kernel) ⟨Nat.le_of_ble_eq_true rfl, Nat.le_of_ble_eq_true rfl⟩ ⟨Nat.le_of_ble_eq_true rfl, Nat.le_of_ble_eq_true rfl⟩ rfl rfl (Nat.le_of_ble_eq_true rfl) dX10_bodyFrom_6) (mM_hasOwn 2 1 (by decide) (by decide)) (fun _ _ _ => zP0) rfl ?_
  refine z_ifB_neF hz 22 dX10_bodyFrom_9 (by decide) (by decide) ?_
  refine z_iload hz dX10_bodyFrom_12 4 rfl ?_
  refine z_callRD (st2 := [.int 0]) hz zKp.mt (zk_S hz (rm := (zRm 0 0 0 0)) (As := [.int 2]) (rest := []) 1 q2229 q2230 q95 q2231 (by decide +kernel) ⟨Nat.le_of_ble_eq_true rfl, Nat.le_of_ble_eq_true rfl⟩ ⟨Nat.le_of_ble_eq_true rfl, Nat.le_of_ble_eq_true rfl⟩ rfl rfl (Nat.le_of_ble_eq_true rfl) dX10_bodyFrom_14) (mM_above 2 (by decide)) (fun _ _ _ => zP0) rfl ?_
  refine z_istore (lv' := [(0, .ref (ad 99)), (1, .int 2), (2, .int 1), (3, .int x), (4, .int 0)]) hz [1, 2, 3, 4, 0] dX10_bodyFrom_17 (by decide) rfl ?_
  refine z_goto hz 3 dX10_bodyFrom_19 (by decide) ?_
  refine z_iload hz dX10_bodyFrom_3 4 rfl ?_
  refine z_iload_n hz dX10_bodyFrom_5 2 rfl rfl ?_
  refine z_callRD (st2 := [.int (zB (ownP 0 1))]) hz zKp.mt (zk_S hz (rm := (zRm 0 0 0 0)) (As := [.int 0, .int 1]) (rest := []) 2 q2437 q2438 q95 q2439 (by decide +kernel) ⟨Nat.le_of_ble_eq_true rfl, Nat.le_of_ble_eq_true rfl⟩ ⟨Nat.le_of_ble_eq_true rfl, Nat.le_of_ble_eq_true rfl⟩ rfl rfl (Nat.le_of_ble_eq_true rfl) dX10_bodyFrom_6) (mM_hasOwn 0 1 (by decide) (by decide)) (fun _ _ _ => zP0) rfl ?_
  refine z_ifB_neT hz 22 dX10_bodyFrom_9 (by decide) (by decide) ?_
  refine z_aload_n hz dX10_bodyFrom_22 0 rfl rfl ?_
  refine z_iload hz dX10_bodyFrom_23 4 rfl ?_
  refine z_iload_n hz dX10_bodyFrom_25 2 rfl rfl ?_
  refine z_iload_n hz dX10_bodyFrom_26 3 rfl rfl ?_
  refine z_callD (bs2 := [zO (ad 99) 10 (mFs ad (upd (upd iv 24 (nI w)) 23 (nI ((b01 (nI w) K x sv).2.2)))), zI (G.2.2.1 0) (ad 0) 602 g, zI (G.2.2.1 0) (ad 22) 40 ((b01 (nI w) K x sv).2.1)]) (st2 := [.int ((b01 (nI w) K x sv).1)]) hz hA (zk_V hz (rm := (zRm 7 0 0 210)) (As := [.int 0, .int 1, .int x]) (rest := []) 3 q2440 q2442 qs76 q95 q2443 (by decide +kernel) ⟨Nat.le_of_ble_eq_true rfl, Nat.le_of_ble_eq_true rfl⟩ ⟨Nat.le_of_ble_eq_true rfl, Nat.le_of_ble_eq_true rfl⟩ (zRecv (q := (RX10, TX10, 29)) hz (zAt.mt 0 0 rfl rfl) rfl) rfl rfl (Nat.le_of_ble_eq_true rfl) dX10_bodyFrom_27) (mM_b01 ad iv g sv w K hw hK8 hK hs40 x) [0, 1, 2] rfl (by decide) rfl rfl ?_
  exact z_iret hQ hz hr hlk dX10_bodyFrom_30 ⟨rfl, rfl⟩
set_option maxHeartbeats 400000 in
theorem mM_f31 {G : zG} (ad : Nat → Nat) (iv g : Nat → Int32) (sv : zV) (w K : Nat) (hw : w < 12) (hK8 : K < 8) (hK : g (152 + 4 * w) = nI K) (hs40 : sv.2 ≤ 40) (x : Int32) : zMet G yX10_bodyFrom (ws_ yX10_bodyFrom cX10_bodyFrom 5 (some .int)) (zRm 13 0 0 390) [.ref (ad 99), .int 3, .int 1, .int x] [zO (ad 99) 10 (mFs ad (upd (upd iv 24 (nI w)) 23 (nI sv.2))), zI (G.2.2.1 0) (ad 0) 602 g, zI (G.2.2.1 0) (ad 22) 40 sv.1] (fun v9 b9 => v9 = some (.int (b31 (nI w) (g (152 + 4 * w + 1)) K x sv).1) ∧ b9 = [zO (ad 99) 10 (mFs ad (upd (upd iv 24 (nI w)) 23 (nI ((b31 (nI w) (g (152 + 4 * w + 1)) K x sv).2.2)))), zI (G.2.2.1 0) (ad 0) 602 g, zI (G.2.2.1 0) (ad 22) 40 ((b31 (nI w) (g (152 + 4 * w + 1)) K x sv).2.1)]) := by
  refine zMet.of (by decide +kernel) (Nat.le_of_ble_eq_true rfl) ?_
  intro p e s m args below meth c A hz hA hr hlk hnm9 Q hQ
  refine z_lv (lv' := [(0, .ref (ad 99)), (1, .int 3), (2, .int 1), (3, .int x)]) [0, 1, 2, 3] rfl ?_
  refine z_iload_n hz dX10_bodyFrom_0 1 rfl rfl ?_
  refine z_istore (lv' := [(0, .ref (ad 99)), (1, .int 3), (2, .int 1), (3, .int x), (4, .int 3)]) hz [1, 2, 3, 4, 0] dX10_bodyFrom_1 (by decide) rfl ?_
  refine z_iload hz dX10_bodyFrom_3 4 rfl ?_
  refine z_iload_n hz dX10_bodyFrom_5 2 rfl rfl ?_
  refine z_callRD (st2 := [.int (zB (ownP 3 1))]) hz zKp.mt (zk_S hz (rm := (zRm 0 0 0 0)) (As := [.int 3, .int 1]) (rest := []) 2 q2437 q2438 q95 q2439 (by decide +kernel) ⟨Nat.le_of_ble_eq_true rfl, Nat.le_of_ble_eq_true rfl⟩ ⟨Nat.le_of_ble_eq_true rfl, Nat.le_of_ble_eq_true rfl⟩ rfl rfl (Nat.le_of_ble_eq_true rfl) dX10_bodyFrom_6) (mM_hasOwn 3 1 (by decide) (by decide)) (fun _ _ _ => zP0) rfl ?_
  refine z_ifB_neT hz 22 dX10_bodyFrom_9 (by decide) (by decide) ?_
  refine z_aload_n hz dX10_bodyFrom_22 0 rfl rfl ?_
  refine z_iload hz dX10_bodyFrom_23 4 rfl ?_
  refine z_iload_n hz dX10_bodyFrom_25 2 rfl rfl ?_
  refine z_iload_n hz dX10_bodyFrom_26 3 rfl rfl ?_
  refine z_callD (bs2 := [zO (ad 99) 10 (mFs ad (upd (upd iv 24 (nI w)) 23 (nI ((b31 (nI w) (g (152 + 4 * w + 1)) K x sv).2.2)))), zI (G.2.2.1 0) (ad 0) 602 g, zI (G.2.2.1 0) (ad 22) 40 ((b31 (nI w) (g (152 + 4 * w + 1)) K x sv).2.1)]) (st2 := [.int ((b31 (nI w) (g (152 + 4 * w + 1)) K x sv).1)]) hz hA (zk_V hz (rm := (zRm 12 0 0 360)) (As := [.int 3, .int 1, .int x]) (rest := []) 3 q2440 q2442 qs76 q95 q2443 (by decide +kernel) ⟨Nat.le_of_ble_eq_true rfl, Nat.le_of_ble_eq_true rfl⟩ ⟨Nat.le_of_ble_eq_true rfl, Nat.le_of_ble_eq_true rfl⟩ (zRecv (q := (RX10, TX10, 29)) hz (zAt.mt 0 0 rfl rfl) rfl) rfl rfl (Nat.le_of_ble_eq_true rfl) dX10_bodyFrom_27) (mM_b31 ad iv g sv w K hw hK8 hK hs40 x) [0, 1, 2] rfl (by decide) rfl rfl ?_
  exact z_iret hQ hz hr hlk dX10_bodyFrom_30 ⟨rfl, rfl⟩
set_option maxHeartbeats 400000 in
theorem mM_f41 {G : zG} (ad : Nat → Nat) (iv g : Nat → Int32) (sv : zV) (w K : Nat) (hw : w < 12) (hK8 : K < 8) (hK : g (152 + 4 * w) = nI K) (hs40 : sv.2 ≤ 40) (x : Int32) : zMet G yX10_bodyFrom (ws_ yX10_bodyFrom cX10_bodyFrom 5 (some .int)) (zRm 8 0 0 240) [.ref (ad 99), .int 4, .int 1, .int x] [zO (ad 99) 10 (mFs ad (upd (upd iv 24 (nI w)) 23 (nI sv.2))), zI (G.2.2.1 0) (ad 0) 602 g, zI (G.2.2.1 0) (ad 22) 40 sv.1] (fun v9 b9 => v9 = some (.int (b01 (nI w) K x sv).1) ∧ b9 = [zO (ad 99) 10 (mFs ad (upd (upd iv 24 (nI w)) 23 (nI ((b01 (nI w) K x sv).2.2)))), zI (G.2.2.1 0) (ad 0) 602 g, zI (G.2.2.1 0) (ad 22) 40 ((b01 (nI w) K x sv).2.1)]) := by
  refine zMet.of (by decide +kernel) (Nat.le_of_ble_eq_true rfl) ?_
  intro p e s m args below meth c A hz hA hr hlk hnm9 Q hQ
  refine z_lv (lv' := [(0, .ref (ad 99)), (1, .int 4), (2, .int 1), (3, .int x)]) [0, 1, 2, 3] rfl ?_
  refine z_iload_n hz dX10_bodyFrom_0 1 rfl rfl ?_
  refine z_istore (lv' := [(0, .ref (ad 99)), (1, .int 4), (2, .int 1), (3, .int x), (4, .int 4)]) hz [1, 2, 3, 4, 0] dX10_bodyFrom_1 (by decide) rfl ?_
  refine z_iload hz dX10_bodyFrom_3 4 rfl ?_
  refine z_iload_n hz dX10_bodyFrom_5 2 rfl rfl ?_
  refine z_callRD (st2 := [.int (zB (ownP 4 1))]) hz zKp.mt (zk_S hz (rm := (zRm 0 0 0 0)) (As := [.int 4, .int 1]) (rest := []) 2 q2437 q2438 q95 q2439 (by decide +kernel) ⟨Nat.le_of_ble_eq_true rfl, Nat.le_of_ble_eq_true rfl⟩ ⟨Nat.le_of_ble_eq_true rfl, Nat.le_of_ble_eq_true rfl⟩ rfl rfl (Nat.le_of_ble_eq_true rfl) dX10_bodyFrom_6) (mM_hasOwn 4 1 (by decide) (by decide)) (fun _ _ _ => zP0) rfl ?_
  refine z_ifB_neF hz 22 dX10_bodyFrom_9 (by decide) (by decide) ?_
  refine z_iload hz dX10_bodyFrom_12 4 rfl ?_
  refine z_callRD (st2 := [.int 0]) hz zKp.mt (zk_S hz (rm := (zRm 0 0 0 0)) (As := [.int 4]) (rest := []) 1 q2229 q2230 q95 q2231 (by decide +kernel) ⟨Nat.le_of_ble_eq_true rfl, Nat.le_of_ble_eq_true rfl⟩ ⟨Nat.le_of_ble_eq_true rfl, Nat.le_of_ble_eq_true rfl⟩ rfl rfl (Nat.le_of_ble_eq_true rfl) dX10_bodyFrom_14) (mM_above 4 (by decide)) (fun _ _ _ => zP0) rfl ?_
  refine z_istore (lv' := [(0, .ref (ad 99)), (1, .int 4), (2, .int 1), (3, .int x), (4, .int 0)]) hz [1, 2, 3, 4, 0] dX10_bodyFrom_17 (by decide) rfl ?_
  refine z_goto hz 3 dX10_bodyFrom_19 (by decide) ?_
  refine z_iload hz dX10_bodyFrom_3 4 rfl ?_
  refine z_iload_n hz dX10_bodyFrom_5 2 rfl rfl ?_
  refine z_callRD (st2 := [.int (zB (ownP 0 1))]) hz zKp.mt (zk_S hz (rm := (zRm 0 0 0 0)) (As := [.int 0, .int 1]) (rest := []) 2 q2437 q2438 q95 q2439 (by decide +kernel) ⟨Nat.le_of_ble_eq_true rfl, Nat.le_of_ble_eq_true rfl⟩ ⟨Nat.le_of_ble_eq_true rfl, Nat.le_of_ble_eq_true rfl⟩ rfl rfl (Nat.le_of_ble_eq_true rfl) dX10_bodyFrom_6) (mM_hasOwn 0 1 (by decide) (by decide)) (fun _ _ _ => zP0) rfl ?_
  refine z_ifB_neT hz 22 dX10_bodyFrom_9 (by decide) (by decide) ?_
  refine z_aload_n hz dX10_bodyFrom_22 0 rfl rfl ?_
  refine z_iload hz dX10_bodyFrom_23 4 rfl ?_
  refine z_iload_n hz dX10_bodyFrom_25 2 rfl rfl ?_
  refine z_iload_n hz dX10_bodyFrom_26 3 rfl rfl ?_
  refine z_callD (bs2 := [zO (ad 99) 10 (mFs ad (upd (upd iv 24 (nI w)) 23 (nI ((b01 (nI w) K x sv).2.2)))), zI (G.2.2.1 0) (ad 0) 602 g, zI (G.2.2.1 0) (ad 22) 40 ((b01 (nI w) K x sv).2.1)]) (st2 := [.int ((b01 (nI w) K x sv).1)]) hz hA (zk_V hz (rm := (zRm 7 0 0 210)) (As := [.int 0, .int 1, .int x]) (rest := []) 3 q2440 q2442 qs76 q95 q2443 (by decide +kernel) ⟨Nat.le_of_ble_eq_true rfl, Nat.le_of_ble_eq_true rfl⟩ ⟨Nat.le_of_ble_eq_true rfl, Nat.le_of_ble_eq_true rfl⟩ (zRecv (q := (RX10, TX10, 29)) hz (zAt.mt 0 0 rfl rfl) rfl) rfl rfl (Nat.le_of_ble_eq_true rfl) dX10_bodyFrom_27) (mM_b01 ad iv g sv w K hw hK8 hK hs40 x) [0, 1, 2] rfl (by decide) rfl rfl ?_
  exact z_iret hQ hz hr hlk dX10_bodyFrom_30 ⟨rfl, rfl⟩
set_option maxHeartbeats 400000 in
theorem mM_f51 {G : zG} (ad : Nat → Nat) (iv g : Nat → Int32) (sv : zV) (w K : Nat) (hw : w < 12) (hK8 : K < 8) (hK : g (152 + 4 * w) = nI K) (hs40 : sv.2 ≤ 40) (x : Int32) : zMet G yX10_bodyFrom (ws_ yX10_bodyFrom cX10_bodyFrom 5 (some .int)) (zRm 8 0 0 240) [.ref (ad 99), .int 5, .int 1, .int x] [zO (ad 99) 10 (mFs ad (upd (upd iv 24 (nI w)) 23 (nI sv.2))), zI (G.2.2.1 0) (ad 0) 602 g, zI (G.2.2.1 0) (ad 22) 40 sv.1] (fun v9 b9 => v9 = some (.int (b01 (nI w) K x sv).1) ∧ b9 = [zO (ad 99) 10 (mFs ad (upd (upd iv 24 (nI w)) 23 (nI ((b01 (nI w) K x sv).2.2)))), zI (G.2.2.1 0) (ad 0) 602 g, zI (G.2.2.1 0) (ad 22) 40 ((b01 (nI w) K x sv).2.1)]) := by
  refine zMet.of (by decide +kernel) (Nat.le_of_ble_eq_true rfl) ?_
  intro p e s m args below meth c A hz hA hr hlk hnm9 Q hQ
  refine z_lv (lv' := [(0, .ref (ad 99)), (1, .int 5), (2, .int 1), (3, .int x)]) [0, 1, 2, 3] rfl ?_
  refine z_iload_n hz dX10_bodyFrom_0 1 rfl rfl ?_
  refine z_istore (lv' := [(0, .ref (ad 99)), (1, .int 5), (2, .int 1), (3, .int x), (4, .int 5)]) hz [1, 2, 3, 4, 0] dX10_bodyFrom_1 (by decide) rfl ?_
  refine z_iload hz dX10_bodyFrom_3 4 rfl ?_
  refine z_iload_n hz dX10_bodyFrom_5 2 rfl rfl ?_
  refine z_callRD (st2 := [.int (zB (ownP 5 1))]) hz zKp.mt (zk_S hz (rm := (zRm 0 0 0 0)) (As := [.int 5, .int 1]) (rest := []) 2 q2437 q2438 q95 q2439 (by decide +kernel) ⟨Nat.le_of_ble_eq_true rfl, Nat.le_of_ble_eq_true rfl⟩ ⟨Nat.le_of_ble_eq_true rfl, Nat.le_of_ble_eq_true rfl⟩ rfl rfl (Nat.le_of_ble_eq_true rfl) dX10_bodyFrom_6) (mM_hasOwn 5 1 (by decide) (by decide)) (fun _ _ _ => zP0) rfl ?_
  refine z_ifB_neF hz 22 dX10_bodyFrom_9 (by decide) (by decide) ?_
  refine z_iload hz dX10_bodyFrom_12 4 rfl ?_
  refine z_callRD (st2 := [.int 0]) hz zKp.mt (zk_S hz (rm := (zRm 0 0 0 0)) (As := [.int 5]) (rest := []) 1 q2229 q2230 q95 q2231 (by decide +kernel) ⟨Nat.le_of_ble_eq_true rfl, Nat.le_of_ble_eq_true rfl⟩ ⟨Nat.le_of_ble_eq_true rfl, Nat.le_of_ble_eq_true rfl⟩ rfl rfl (Nat.le_of_ble_eq_true rfl) dX10_bodyFrom_14) (mM_above 5 (by decide)) (fun _ _ _ => zP0) rfl ?_
  refine z_istore (lv' := [(0, .ref (ad 99)), (1, .int 5), (2, .int 1), (3, .int x), (4, .int 0)]) hz [1, 2, 3, 4, 0] dX10_bodyFrom_17 (by decide) rfl ?_
  refine z_goto hz 3 dX10_bodyFrom_19 (by decide) ?_
  refine z_iload hz dX10_bodyFrom_3 4 rfl ?_
  refine z_iload_n hz dX10_bodyFrom_5 2 rfl rfl ?_
  refine z_callRD (st2 := [.int (zB (ownP 0 1))]) hz zKp.mt (zk_S hz (rm := (zRm 0 0 0 0)) (As := [.int 0, .int 1]) (rest := []) 2 q2437 q2438 q95 q2439 (by decide +kernel) ⟨Nat.le_of_ble_eq_true rfl, Nat.le_of_ble_eq_true rfl⟩ ⟨Nat.le_of_ble_eq_true rfl, Nat.le_of_ble_eq_true rfl⟩ rfl rfl (Nat.le_of_ble_eq_true rfl) dX10_bodyFrom_6) (mM_hasOwn 0 1 (by decide) (by decide)) (fun _ _ _ => zP0) rfl ?_
  refine z_ifB_neT hz 22 dX10_bodyFrom_9 (by decide) (by decide) ?_
  refine z_aload_n hz dX10_bodyFrom_22 0 rfl rfl ?_
  refine z_iload hz dX10_bodyFrom_23 4 rfl ?_
  refine z_iload_n hz dX10_bodyFrom_25 2 rfl rfl ?_
  refine z_iload_n hz dX10_bodyFrom_26 3 rfl rfl ?_
  refine z_callD (bs2 := [zO (ad 99) 10 (mFs ad (upd (upd iv 24 (nI w)) 23 (nI ((b01 (nI w) K x sv).2.2)))), zI (G.2.2.1 0) (ad 0) 602 g, zI (G.2.2.1 0) (ad 22) 40 ((b01 (nI w) K x sv).2.1)]) (st2 := [.int ((b01 (nI w) K x sv).1)]) hz hA (zk_V hz (rm := (zRm 7 0 0 210)) (As := [.int 0, .int 1, .int x]) (rest := []) 3 q2440 q2442 qs76 q95 q2443 (by decide +kernel) ⟨Nat.le_of_ble_eq_true rfl, Nat.le_of_ble_eq_true rfl⟩ ⟨Nat.le_of_ble_eq_true rfl, Nat.le_of_ble_eq_true rfl⟩ (zRecv (q := (RX10, TX10, 29)) hz (zAt.mt 0 0 rfl rfl) rfl) rfl rfl (Nat.le_of_ble_eq_true rfl) dX10_bodyFrom_27) (mM_b01 ad iv g sv w K hw hK8 hK hs40 x) [0, 1, 2] rfl (by decide) rfl rfl ?_
  exact z_iret hQ hz hr hlk dX10_bodyFrom_30 ⟨rfl, rfl⟩
set_option maxHeartbeats 400000 in
theorem mM_f61 {G : zG} (ad : Nat → Nat) (iv g : Nat → Int32) (sv : zV) (w K : Nat) (hw : w < 12) (hK8 : K < 8) (hK : g (152 + 4 * w) = nI K) (hs40 : sv.2 ≤ 40) (x : Int32) : zMet G yX10_bodyFrom (ws_ yX10_bodyFrom cX10_bodyFrom 5 (some .int)) (zRm 11 0 0 330) [.ref (ad 99), .int 6, .int 1, .int x] [zO (ad 99) 10 (mFs ad (upd (upd iv 24 (nI w)) 23 (nI sv.2))), zI (G.2.2.1 0) (ad 0) 602 g, zI (G.2.2.1 0) (ad 22) 40 sv.1] (fun v9 b9 => v9 = some (.int (b11 (nI w) (g (152 + 4 * w + 1)) K x sv).1) ∧ b9 = [zO (ad 99) 10 (mFs ad (upd (upd iv 24 (nI w)) 23 (nI ((b11 (nI w) (g (152 + 4 * w + 1)) K x sv).2.2)))), zI (G.2.2.1 0) (ad 0) 602 g, zI (G.2.2.1 0) (ad 22) 40 ((b11 (nI w) (g (152 + 4 * w + 1)) K x sv).2.1)]) := by
  refine zMet.of (by decide +kernel) (Nat.le_of_ble_eq_true rfl) ?_
  intro p e s m args below meth c A hz hA hr hlk hnm9 Q hQ
  refine z_lv (lv' := [(0, .ref (ad 99)), (1, .int 6), (2, .int 1), (3, .int x)]) [0, 1, 2, 3] rfl ?_
  refine z_iload_n hz dX10_bodyFrom_0 1 rfl rfl ?_
  refine z_istore (lv' := [(0, .ref (ad 99)), (1, .int 6), (2, .int 1), (3, .int x), (4, .int 6)]) hz [1, 2, 3, 4, 0] dX10_bodyFrom_1 (by decide) rfl ?_
  refine z_iload hz dX10_bodyFrom_3 4 rfl ?_
  refine z_iload_n hz dX10_bodyFrom_5 2 rfl rfl ?_
  refine z_callRD (st2 := [.int (zB (ownP 6 1))]) hz zKp.mt (zk_S hz (rm := (zRm 0 0 0 0)) (As := [.int 6, .int 1]) (rest := []) 2 q2437 q2438 q95 q2439 (by decide +kernel) ⟨Nat.le_of_ble_eq_true rfl, Nat.le_of_ble_eq_true rfl⟩ ⟨Nat.le_of_ble_eq_true rfl, Nat.le_of_ble_eq_true rfl⟩ rfl rfl (Nat.le_of_ble_eq_true rfl) dX10_bodyFrom_6) (mM_hasOwn 6 1 (by decide) (by decide)) (fun _ _ _ => zP0) rfl ?_
  refine z_ifB_neF hz 22 dX10_bodyFrom_9 (by decide) (by decide) ?_
  refine z_iload hz dX10_bodyFrom_12 4 rfl ?_
  refine z_callRD (st2 := [.int 1]) hz zKp.mt (zk_S hz (rm := (zRm 0 0 0 0)) (As := [.int 6]) (rest := []) 1 q2229 q2230 q95 q2231 (by decide +kernel) ⟨Nat.le_of_ble_eq_true rfl, Nat.le_of_ble_eq_true rfl⟩ ⟨Nat.le_of_ble_eq_true rfl, Nat.le_of_ble_eq_true rfl⟩ rfl rfl (Nat.le_of_ble_eq_true rfl) dX10_bodyFrom_14) (mM_above 6 (by decide)) (fun _ _ _ => zP0) rfl ?_
  refine z_istore (lv' := [(0, .ref (ad 99)), (1, .int 6), (2, .int 1), (3, .int x), (4, .int 1)]) hz [1, 2, 3, 4, 0] dX10_bodyFrom_17 (by decide) rfl ?_
  refine z_goto hz 3 dX10_bodyFrom_19 (by decide) ?_
  refine z_iload hz dX10_bodyFrom_3 4 rfl ?_
  refine z_iload_n hz dX10_bodyFrom_5 2 rfl rfl ?_
  refine z_callRD (st2 := [.int (zB (ownP 1 1))]) hz zKp.mt (zk_S hz (rm := (zRm 0 0 0 0)) (As := [.int 1, .int 1]) (rest := []) 2 q2437 q2438 q95 q2439 (by decide +kernel) ⟨Nat.le_of_ble_eq_true rfl, Nat.le_of_ble_eq_true rfl⟩ ⟨Nat.le_of_ble_eq_true rfl, Nat.le_of_ble_eq_true rfl⟩ rfl rfl (Nat.le_of_ble_eq_true rfl) dX10_bodyFrom_6) (mM_hasOwn 1 1 (by decide) (by decide)) (fun _ _ _ => zP0) rfl ?_
  refine z_ifB_neT hz 22 dX10_bodyFrom_9 (by decide) (by decide) ?_
  refine z_aload_n hz dX10_bodyFrom_22 0 rfl rfl ?_
  refine z_iload hz dX10_bodyFrom_23 4 rfl ?_
  refine z_iload_n hz dX10_bodyFrom_25 2 rfl rfl ?_
  refine z_iload_n hz dX10_bodyFrom_26 3 rfl rfl ?_
  refine z_callD (bs2 := [zO (ad 99) 10 (mFs ad (upd (upd iv 24 (nI w)) 23 (nI ((b11 (nI w) (g (152 + 4 * w + 1)) K x sv).2.2)))), zI (G.2.2.1 0) (ad 0) 602 g, zI (G.2.2.1 0) (ad 22) 40 ((b11 (nI w) (g (152 + 4 * w + 1)) K x sv).2.1)]) (st2 := [.int ((b11 (nI w) (g (152 + 4 * w + 1)) K x sv).1)]) hz hA (zk_V hz (rm := (zRm 10 0 0 300)) (As := [.int 1, .int 1, .int x]) (rest := []) 3 q2440 q2442 qs76 q95 q2443 (by decide +kernel) ⟨Nat.le_of_ble_eq_true rfl, Nat.le_of_ble_eq_true rfl⟩ ⟨Nat.le_of_ble_eq_true rfl, Nat.le_of_ble_eq_true rfl⟩ (zRecv (q := (RX10, TX10, 29)) hz (zAt.mt 0 0 rfl rfl) rfl) rfl rfl (Nat.le_of_ble_eq_true rfl) dX10_bodyFrom_27) (mM_b11 ad iv g sv w K hw hK8 hK hs40 x) [0, 1, 2] rfl (by decide) rfl rfl ?_
  exact z_iret hQ hz hr hlk dX10_bodyFrom_30 ⟨rfl, rfl⟩
set_option maxHeartbeats 400000 in
theorem mM_f71 {G : zG} (ad : Nat → Nat) (iv g : Nat → Int32) (sv : zV) (w K : Nat) (hw : w < 12) (hK8 : K < 8) (hK : g (152 + 4 * w) = nI K) (hs40 : sv.2 ≤ 40) (x : Int32) : zMet G yX10_bodyFrom (ws_ yX10_bodyFrom cX10_bodyFrom 5 (some .int)) (zRm 8 0 0 240) [.ref (ad 99), .int 7, .int 1, .int x] [zO (ad 99) 10 (mFs ad (upd (upd iv 24 (nI w)) 23 (nI sv.2))), zI (G.2.2.1 0) (ad 0) 602 g, zI (G.2.2.1 0) (ad 22) 40 sv.1] (fun v9 b9 => v9 = some (.int (b01 (nI w) K x sv).1) ∧ b9 = [zO (ad 99) 10 (mFs ad (upd (upd iv 24 (nI w)) 23 (nI ((b01 (nI w) K x sv).2.2)))), zI (G.2.2.1 0) (ad 0) 602 g, zI (G.2.2.1 0) (ad 22) 40 ((b01 (nI w) K x sv).2.1)]) := by
  refine zMet.of (by decide +kernel) (Nat.le_of_ble_eq_true rfl) ?_
  intro p e s m args below meth c A hz hA hr hlk hnm9 Q hQ
  refine z_lv (lv' := [(0, .ref (ad 99)), (1, .int 7), (2, .int 1), (3, .int x)]) [0, 1, 2, 3] rfl ?_
  refine z_iload_n hz dX10_bodyFrom_0 1 rfl rfl ?_
  refine z_istore (lv' := [(0, .ref (ad 99)), (1, .int 7), (2, .int 1), (3, .int x), (4, .int 7)]) hz [1, 2, 3, 4, 0] dX10_bodyFrom_1 (by decide) rfl ?_
  refine z_iload hz dX10_bodyFrom_3 4 rfl ?_
  refine z_iload_n hz dX10_bodyFrom_5 2 rfl rfl ?_
  refine z_callRD (st2 := [.int (zB (ownP 7 1))]) hz zKp.mt (zk_S hz (rm := (zRm 0 0 0 0)) (As := [.int 7, .int 1]) (rest := []) 2 q2437 q2438 q95 q2439 (by decide +kernel) ⟨Nat.le_of_ble_eq_true rfl, Nat.le_of_ble_eq_true rfl⟩ ⟨Nat.le_of_ble_eq_true rfl, Nat.le_of_ble_eq_true rfl⟩ rfl rfl (Nat.le_of_ble_eq_true rfl) dX10_bodyFrom_6) (mM_hasOwn 7 1 (by decide) (by decide)) (fun _ _ _ => zP0) rfl ?_
  refine z_ifB_neF hz 22 dX10_bodyFrom_9 (by decide) (by decide) ?_
  refine z_iload hz dX10_bodyFrom_12 4 rfl ?_
  refine z_callRD (st2 := [.int 5]) hz zKp.mt (zk_S hz (rm := (zRm 0 0 0 0)) (As := [.int 7]) (rest := []) 1 q2229 q2230 q95 q2231 (by decide +kernel) ⟨Nat.le_of_ble_eq_true rfl, Nat.le_of_ble_eq_true rfl⟩ ⟨Nat.le_of_ble_eq_true rfl, Nat.le_of_ble_eq_true rfl⟩ rfl rfl (Nat.le_of_ble_eq_true rfl) dX10_bodyFrom_14) (mM_above 7 (by decide)) (fun _ _ _ => zP0) rfl ?_
  refine z_istore (lv' := [(0, .ref (ad 99)), (1, .int 7), (2, .int 1), (3, .int x), (4, .int 5)]) hz [1, 2, 3, 4, 0] dX10_bodyFrom_17 (by decide) rfl ?_
  refine z_goto hz 3 dX10_bodyFrom_19 (by decide) ?_
  refine z_iload hz dX10_bodyFrom_3 4 rfl ?_
  refine z_iload_n hz dX10_bodyFrom_5 2 rfl rfl ?_
  refine z_callRD (st2 := [.int (zB (ownP 5 1))]) hz zKp.mt (zk_S hz (rm := (zRm 0 0 0 0)) (As := [.int 5, .int 1]) (rest := []) 2 q2437 q2438 q95 q2439 (by decide +kernel) ⟨Nat.le_of_ble_eq_true rfl, Nat.le_of_ble_eq_true rfl⟩ ⟨Nat.le_of_ble_eq_true rfl, Nat.le_of_ble_eq_true rfl⟩ rfl rfl (Nat.le_of_ble_eq_true rfl) dX10_bodyFrom_6) (mM_hasOwn 5 1 (by decide) (by decide)) (fun _ _ _ => zP0) rfl ?_
  refine z_ifB_neF hz 22 dX10_bodyFrom_9 (by decide) (by decide) ?_
  refine z_iload hz dX10_bodyFrom_12 4 rfl ?_
  refine z_callRD (st2 := [.int 0]) hz zKp.mt (zk_S hz (rm := (zRm 0 0 0 0)) (As := [.int 5]) (rest := []) 1 q2229 q2230 q95 q2231 (by decide +kernel) ⟨Nat.le_of_ble_eq_true rfl, Nat.le_of_ble_eq_true rfl⟩ ⟨Nat.le_of_ble_eq_true rfl, Nat.le_of_ble_eq_true rfl⟩ rfl rfl (Nat.le_of_ble_eq_true rfl) dX10_bodyFrom_14) (mM_above 5 (by decide)) (fun _ _ _ => zP0) rfl ?_
  refine z_istore (lv' := [(0, .ref (ad 99)), (1, .int 7), (2, .int 1), (3, .int x), (4, .int 0)]) hz [1, 2, 3, 4, 0] dX10_bodyFrom_17 (by decide) rfl ?_
  refine z_goto hz 3 dX10_bodyFrom_19 (by decide) ?_
  refine z_iload hz dX10_bodyFrom_3 4 rfl ?_
  refine z_iload_n hz dX10_bodyFrom_5 2 rfl rfl ?_
  refine z_callRD (st2 := [.int (zB (ownP 0 1))]) hz zKp.mt (zk_S hz (rm := (zRm 0 0 0 0)) (As := [.int 0, .int 1]) (rest := []) 2 q2437 q2438 q95 q2439 (by decide +kernel) ⟨Nat.le_of_ble_eq_true rfl, Nat.le_of_ble_eq_true rfl⟩ ⟨Nat.le_of_ble_eq_true rfl, Nat.le_of_ble_eq_true rfl⟩ rfl rfl (Nat.le_of_ble_eq_true rfl) dX10_bodyFrom_6) (mM_hasOwn 0 1 (by decide) (by decide)) (fun _ _ _ => zP0) rfl ?_
  refine z_ifB_neT hz 22 dX10_bodyFrom_9 (by decide) (by decide) ?_
  refine z_aload_n hz dX10_bodyFrom_22 0 rfl rfl ?_
  refine z_iload hz dX10_bodyFrom_23 4 rfl ?_
  refine z_iload_n hz dX10_bodyFrom_25 2 rfl rfl ?_
  refine z_iload_n hz dX10_bodyFrom_26 3 rfl rfl ?_
  refine z_callD (bs2 := [zO (ad 99) 10 (mFs ad (upd (upd iv 24 (nI w)) 23 (nI ((b01 (nI w) K x sv).2.2)))), zI (G.2.2.1 0) (ad 0) 602 g, zI (G.2.2.1 0) (ad 22) 40 ((b01 (nI w) K x sv).2.1)]) (st2 := [.int ((b01 (nI w) K x sv).1)]) hz hA (zk_V hz (rm := (zRm 7 0 0 210)) (As := [.int 0, .int 1, .int x]) (rest := []) 3 q2440 q2442 qs76 q95 q2443 (by decide +kernel) ⟨Nat.le_of_ble_eq_true rfl, Nat.le_of_ble_eq_true rfl⟩ ⟨Nat.le_of_ble_eq_true rfl, Nat.le_of_ble_eq_true rfl⟩ (zRecv (q := (RX10, TX10, 29)) hz (zAt.mt 0 0 rfl rfl) rfl) rfl rfl (Nat.le_of_ble_eq_true rfl) dX10_bodyFrom_27) (mM_b01 ad iv g sv w K hw hK8 hK hs40 x) [0, 1, 2] rfl (by decide) rfl rfl ?_
  exact z_iret hQ hz hr hlk dX10_bodyFrom_30 ⟨rfl, rfl⟩
set_option maxHeartbeats 400000 in
theorem mM_v1_0 {G : zG} (ad : Nat → Nat) (iv g : Nat → Int32) (sv : zV) (w : Nat) (hw : w < 12) (hK : g (152 + 4 * w) = nI 0) (hs40 : sv.2 ≤ 40) (x : Int32) : zMet G yX10_voiced (ws_ yX10_voiced cX10_voiced 3 (some .int)) (zRm 14 0 0 420) [.ref (ad 99), .int 1, .int x] [zO (ad 99) 10 (mFs ad (upd (upd iv 24 (nI w)) 23 (nI sv.2))), zI (G.2.2.1 0) (ad 0) 602 g, zI (G.2.2.1 0) (ad 22) 40 sv.1] (fun v9 b9 => v9 = some (.int (v1 (nI w) (g (152 + 4 * w + 1)) 0 x sv).1) ∧ b9 = [zO (ad 99) 10 (mFs ad (upd (upd iv 24 (nI w)) 23 (nI ((v1 (nI w) (g (152 + 4 * w + 1)) 0 x sv).2.2)))), zI (G.2.2.1 0) (ad 0) 602 g, zI (G.2.2.1 0) (ad 22) 40 ((v1 (nI w) (g (152 + 4 * w + 1)) 0 x sv).2.1)]) := by
  refine zMet.of (by decide +kernel) (Nat.le_of_ble_eq_true rfl) ?_
  intro p e s m args below meth c A hz hA hr hlk hnm9 Q hQ
  refine z_lv (lv' := [(0, .ref (ad 99)), (1, .int 1), (2, .int x)]) [0, 1, 2] rfl ?_
  refine z_aload_n hz dX10_voiced_0 0 rfl rfl ?_
  refine z_aload_n hz dX10_voiced_1 0 rfl rfl ?_
  refine z_aload_n hz dX10_voiced_2 0 rfl rfl ?_
  refine z_get (C := RX10) (T := TX10) (N := 29) hz in_X10 (zAt.mt 0 0 rfl rfl) rfl 24 (by decide) q1953 (fun _ h9 => h9) rfl dX10_voiced_3 ?_
  refine z_iconst hz 0 dX10_voiced_6 ki_0 ?_
  refine z_callRD (st2 := [.int (g (152 + 4 * w)), .ref (ad 99)]) hz zKp.mt (zk_V hz (rm := (zRm 0 0 0 0)) (As := [.int (nI w), .int 0]) (rest := [.ref (ad 99)]) 2 q2225 q2227 qs57 q95 q2228 (by decide +kernel) ⟨Nat.le_of_ble_eq_true rfl, Nat.le_of_ble_eq_true rfl⟩ ⟨Nat.le_of_ble_eq_true rfl, Nat.le_of_ble_eq_true rfl⟩ (zRecv (q := (RX10, TX10, 29)) hz (zAt.mt 0 0 rfl rfl) rfl) rfl rfl (Nat.le_of_ble_eq_true rfl) dX10_voiced_7) (mM_way2 ad (upd (upd iv 24 (nI w)) 23 (nI sv.2)) g w 0 (by omega)) (fun H9 L9 h9 => (zPc (zAt.mt 0 0 rfl rfl) h9 (zPc (zAt.mt 1 0 rfl rfl) h9 zP0))) rfl ?_
  refine z_top hK ?_
  refine z_top (y := 0) (by decide) ?_
  refine z_iload_n hz dX10_voiced_10 1 rfl rfl ?_
  refine z_iload_n hz dX10_voiced_11 2 rfl rfl ?_
  refine z_callD (bs2 := [zO (ad 99) 10 (mFs ad (upd (upd iv 24 (nI w)) 23 (nI ((b01 (nI w) 0 x sv).2.2)))), zI (G.2.2.1 0) (ad 0) 602 g, zI (G.2.2.1 0) (ad 22) 40 ((b01 (nI w) 0 x sv).2.1)]) (st2 := [.int ((b01 (nI w) 0 x sv).1)]) hz hA (zk_V hz (rm := (zRm 8 0 0 240)) (As := [.int 0, .int 1, .int x]) (rest := []) 3 q2433 q2435 qs75 q95 q2436 (by decide +kernel) ⟨Nat.le_of_ble_eq_true rfl, Nat.le_of_ble_eq_true rfl⟩ ⟨Nat.le_of_ble_eq_true rfl, Nat.le_of_ble_eq_true rfl⟩ (zRecv (q := (RX10, TX10, 29)) hz (zAt.mt 0 0 rfl rfl) rfl) rfl rfl (Nat.le_of_ble_eq_true rfl) dX10_voiced_12) (mM_f01 ad iv g sv w 0 hw (by decide) hK hs40 x) [0, 1, 2] rfl (by decide) rfl rfl ?_
  exact z_iret hQ hz hr hlk dX10_voiced_15 ⟨rfl, rfl⟩
set_option maxHeartbeats 400000 in
theorem mM_v1_1 {G : zG} (ad : Nat → Nat) (iv g : Nat → Int32) (sv : zV) (w : Nat) (hw : w < 12) (hK : g (152 + 4 * w) = nI 1) (hs40 : sv.2 ≤ 40) (x : Int32) : zMet G yX10_voiced (ws_ yX10_voiced cX10_voiced 3 (some .int)) (zRm 14 0 0 420) [.ref (ad 99), .int 1, .int x] [zO (ad 99) 10 (mFs ad (upd (upd iv 24 (nI w)) 23 (nI sv.2))), zI (G.2.2.1 0) (ad 0) 602 g, zI (G.2.2.1 0) (ad 22) 40 sv.1] (fun v9 b9 => v9 = some (.int (v1 (nI w) (g (152 + 4 * w + 1)) 1 x sv).1) ∧ b9 = [zO (ad 99) 10 (mFs ad (upd (upd iv 24 (nI w)) 23 (nI ((v1 (nI w) (g (152 + 4 * w + 1)) 1 x sv).2.2)))), zI (G.2.2.1 0) (ad 0) 602 g, zI (G.2.2.1 0) (ad 22) 40 ((v1 (nI w) (g (152 + 4 * w + 1)) 1 x sv).2.1)]) := by
  refine zMet.of (by decide +kernel) (Nat.le_of_ble_eq_true rfl) ?_
  intro p e s m args below meth c A hz hA hr hlk hnm9 Q hQ
  refine z_lv (lv' := [(0, .ref (ad 99)), (1, .int 1), (2, .int x)]) [0, 1, 2] rfl ?_
  refine z_aload_n hz dX10_voiced_0 0 rfl rfl ?_
  refine z_aload_n hz dX10_voiced_1 0 rfl rfl ?_
  refine z_aload_n hz dX10_voiced_2 0 rfl rfl ?_
  refine z_get (C := RX10) (T := TX10) (N := 29) hz in_X10 (zAt.mt 0 0 rfl rfl) rfl 24 (by decide) q1953 (fun _ h9 => h9) rfl dX10_voiced_3 ?_
  refine z_iconst hz 0 dX10_voiced_6 ki_0 ?_
  refine z_callRD (st2 := [.int (g (152 + 4 * w)), .ref (ad 99)]) hz zKp.mt (zk_V hz (rm := (zRm 0 0 0 0)) (As := [.int (nI w), .int 0]) (rest := [.ref (ad 99)]) 2 q2225 q2227 qs57 q95 q2228 (by decide +kernel) ⟨Nat.le_of_ble_eq_true rfl, Nat.le_of_ble_eq_true rfl⟩ ⟨Nat.le_of_ble_eq_true rfl, Nat.le_of_ble_eq_true rfl⟩ (zRecv (q := (RX10, TX10, 29)) hz (zAt.mt 0 0 rfl rfl) rfl) rfl rfl (Nat.le_of_ble_eq_true rfl) dX10_voiced_7) (mM_way2 ad (upd (upd iv 24 (nI w)) 23 (nI sv.2)) g w 0 (by omega)) (fun H9 L9 h9 => (zPc (zAt.mt 0 0 rfl rfl) h9 (zPc (zAt.mt 1 0 rfl rfl) h9 zP0))) rfl ?_
  refine z_top hK ?_
  refine z_top (y := 1) (by decide) ?_
  refine z_iload_n hz dX10_voiced_10 1 rfl rfl ?_
  refine z_iload_n hz dX10_voiced_11 2 rfl rfl ?_
  refine z_callD (bs2 := [zO (ad 99) 10 (mFs ad (upd (upd iv 24 (nI w)) 23 (nI ((b11 (nI w) (g (152 + 4 * w + 1)) 1 x sv).2.2)))), zI (G.2.2.1 0) (ad 0) 602 g, zI (G.2.2.1 0) (ad 22) 40 ((b11 (nI w) (g (152 + 4 * w + 1)) 1 x sv).2.1)]) (st2 := [.int ((b11 (nI w) (g (152 + 4 * w + 1)) 1 x sv).1)]) hz hA (zk_V hz (rm := (zRm 11 0 0 330)) (As := [.int 1, .int 1, .int x]) (rest := []) 3 q2433 q2435 qs75 q95 q2436 (by decide +kernel) ⟨Nat.le_of_ble_eq_true rfl, Nat.le_of_ble_eq_true rfl⟩ ⟨Nat.le_of_ble_eq_true rfl, Nat.le_of_ble_eq_true rfl⟩ (zRecv (q := (RX10, TX10, 29)) hz (zAt.mt 0 0 rfl rfl) rfl) rfl rfl (Nat.le_of_ble_eq_true rfl) dX10_voiced_12) (mM_f11 ad iv g sv w 1 hw (by decide) hK hs40 x) [0, 1, 2] rfl (by decide) rfl rfl ?_
  exact z_iret hQ hz hr hlk dX10_voiced_15 ⟨rfl, rfl⟩
set_option maxHeartbeats 400000 in
theorem mM_v1_2 {G : zG} (ad : Nat → Nat) (iv g : Nat → Int32) (sv : zV) (w : Nat) (hw : w < 12) (hK : g (152 + 4 * w) = nI 2) (hs40 : sv.2 ≤ 40) (x : Int32) : zMet G yX10_voiced (ws_ yX10_voiced cX10_voiced 3 (some .int)) (zRm 14 0 0 420) [.ref (ad 99), .int 1, .int x] [zO (ad 99) 10 (mFs ad (upd (upd iv 24 (nI w)) 23 (nI sv.2))), zI (G.2.2.1 0) (ad 0) 602 g, zI (G.2.2.1 0) (ad 22) 40 sv.1] (fun v9 b9 => v9 = some (.int (v1 (nI w) (g (152 + 4 * w + 1)) 2 x sv).1) ∧ b9 = [zO (ad 99) 10 (mFs ad (upd (upd iv 24 (nI w)) 23 (nI ((v1 (nI w) (g (152 + 4 * w + 1)) 2 x sv).2.2)))), zI (G.2.2.1 0) (ad 0) 602 g, zI (G.2.2.1 0) (ad 22) 40 ((v1 (nI w) (g (152 + 4 * w + 1)) 2 x sv).2.1)]) := by
  refine zMet.of (by decide +kernel) (Nat.le_of_ble_eq_true rfl) ?_
  intro p e s m args below meth c A hz hA hr hlk hnm9 Q hQ
  refine z_lv (lv' := [(0, .ref (ad 99)), (1, .int 1), (2, .int x)]) [0, 1, 2] rfl ?_
  refine z_aload_n hz dX10_voiced_0 0 rfl rfl ?_
  refine z_aload_n hz dX10_voiced_1 0 rfl rfl ?_
  refine z_aload_n hz dX10_voiced_2 0 rfl rfl ?_
  refine z_get (C := RX10) (T := TX10) (N := 29) hz in_X10 (zAt.mt 0 0 rfl rfl) rfl 24 (by decide) q1953 (fun _ h9 => h9) rfl dX10_voiced_3 ?_
  refine z_iconst hz 0 dX10_voiced_6 ki_0 ?_
  refine z_callRD (st2 := [.int (g (152 + 4 * w)), .ref (ad 99)]) hz zKp.mt (zk_V hz (rm := (zRm 0 0 0 0)) (As := [.int (nI w), .int 0]) (rest := [.ref (ad 99)]) 2 q2225 q2227 qs57 q95 q2228 (by decide +kernel) ⟨Nat.le_of_ble_eq_true rfl, Nat.le_of_ble_eq_true rfl⟩ ⟨Nat.le_of_ble_eq_true rfl, Nat.le_of_ble_eq_true rfl⟩ (zRecv (q := (RX10, TX10, 29)) hz (zAt.mt 0 0 rfl rfl) rfl) rfl rfl (Nat.le_of_ble_eq_true rfl) dX10_voiced_7) (mM_way2 ad (upd (upd iv 24 (nI w)) 23 (nI sv.2)) g w 0 (by omega)) (fun H9 L9 h9 => (zPc (zAt.mt 0 0 rfl rfl) h9 (zPc (zAt.mt 1 0 rfl rfl) h9 zP0))) rfl ?_
  refine z_top hK ?_
  refine z_top (y := 2) (by decide) ?_
  refine z_iload_n hz dX10_voiced_10 1 rfl rfl ?_
  refine z_iload_n hz dX10_voiced_11 2 rfl rfl ?_
  refine z_callD (bs2 := [zO (ad 99) 10 (mFs ad (upd (upd iv 24 (nI w)) 23 (nI ((b01 (nI w) 2 x sv).2.2)))), zI (G.2.2.1 0) (ad 0) 602 g, zI (G.2.2.1 0) (ad 22) 40 ((b01 (nI w) 2 x sv).2.1)]) (st2 := [.int ((b01 (nI w) 2 x sv).1)]) hz hA (zk_V hz (rm := (zRm 8 0 0 240)) (As := [.int 2, .int 1, .int x]) (rest := []) 3 q2433 q2435 qs75 q95 q2436 (by decide +kernel) ⟨Nat.le_of_ble_eq_true rfl, Nat.le_of_ble_eq_true rfl⟩ ⟨Nat.le_of_ble_eq_true rfl, Nat.le_of_ble_eq_true rfl⟩ (zRecv (q := (RX10, TX10, 29)) hz (zAt.mt 0 0 rfl rfl) rfl) rfl rfl (Nat.le_of_ble_eq_true rfl) dX10_voiced_12) (mM_f21 ad iv g sv w 2 hw (by decide) hK hs40 x) [0, 1, 2] rfl (by decide) rfl rfl ?_
  exact z_iret hQ hz hr hlk dX10_voiced_15 ⟨rfl, rfl⟩
set_option maxHeartbeats 400000 in
theorem mM_v1_3 {G : zG} (ad : Nat → Nat) (iv g : Nat → Int32) (sv : zV) (w : Nat) (hw : w < 12) (hK : g (152 + 4 * w) = nI 3) (hs40 : sv.2 ≤ 40) (x : Int32) : zMet G yX10_voiced (ws_ yX10_voiced cX10_voiced 3 (some .int)) (zRm 14 0 0 420) [.ref (ad 99), .int 1, .int x] [zO (ad 99) 10 (mFs ad (upd (upd iv 24 (nI w)) 23 (nI sv.2))), zI (G.2.2.1 0) (ad 0) 602 g, zI (G.2.2.1 0) (ad 22) 40 sv.1] (fun v9 b9 => v9 = some (.int (v1 (nI w) (g (152 + 4 * w + 1)) 3 x sv).1) ∧ b9 = [zO (ad 99) 10 (mFs ad (upd (upd iv 24 (nI w)) 23 (nI ((v1 (nI w) (g (152 + 4 * w + 1)) 3 x sv).2.2)))), zI (G.2.2.1 0) (ad 0) 602 g, zI (G.2.2.1 0) (ad 22) 40 ((v1 (nI w) (g (152 + 4 * w + 1)) 3 x sv).2.1)]) := by
  refine zMet.of (by decide +kernel) (Nat.le_of_ble_eq_true rfl) ?_
  intro p e s m args below meth c A hz hA hr hlk hnm9 Q hQ
  refine z_lv (lv' := [(0, .ref (ad 99)), (1, .int 1), (2, .int x)]) [0, 1, 2] rfl ?_
  refine z_aload_n hz dX10_voiced_0 0 rfl rfl ?_
  refine z_aload_n hz dX10_voiced_1 0 rfl rfl ?_
  refine z_aload_n hz dX10_voiced_2 0 rfl rfl ?_
  refine z_get (C := RX10) (T := TX10) (N := 29) hz in_X10 (zAt.mt 0 0 rfl rfl) rfl 24 (by decide) q1953 (fun _ h9 => h9) rfl dX10_voiced_3 ?_
  refine z_iconst hz 0 dX10_voiced_6 ki_0 ?_
  refine z_callRD (st2 := [.int (g (152 + 4 * w)), .ref (ad 99)]) hz zKp.mt (zk_V hz (rm := (zRm 0 0 0 0)) (As := [.int (nI w), .int 0]) (rest := [.ref (ad 99)]) 2 q2225 q2227 qs57 q95 q2228 (by decide +kernel) ⟨Nat.le_of_ble_eq_true rfl, Nat.le_of_ble_eq_true rfl⟩ ⟨Nat.le_of_ble_eq_true rfl, Nat.le_of_ble_eq_true rfl⟩ (zRecv (q := (RX10, TX10, 29)) hz (zAt.mt 0 0 rfl rfl) rfl) rfl rfl (Nat.le_of_ble_eq_true rfl) dX10_voiced_7) (mM_way2 ad (upd (upd iv 24 (nI w)) 23 (nI sv.2)) g w 0 (by omega)) (fun H9 L9 h9 => (zPc (zAt.mt 0 0 rfl rfl) h9 (zPc (zAt.mt 1 0 rfl rfl) h9 zP0))) rfl ?_
  refine z_top hK ?_
  refine z_top (y := 3) (by decide) ?_
  refine z_iload_n hz dX10_voiced_10 1 rfl rfl ?_
  refine z_iload_n hz dX10_voiced_11 2 rfl rfl ?_
  refine z_callD (bs2 := [zO (ad 99) 10 (mFs ad (upd (upd iv 24 (nI w)) 23 (nI ((b31 (nI w) (g (152 + 4 * w + 1)) 3 x sv).2.2)))), zI (G.2.2.1 0) (ad 0) 602 g, zI (G.2.2.1 0) (ad 22) 40 ((b31 (nI w) (g (152 + 4 * w + 1)) 3 x sv).2.1)]) (st2 := [.int ((b31 (nI w) (g (152 + 4 * w + 1)) 3 x sv).1)]) hz hA (zk_V hz (rm := (zRm 13 0 0 390)) (As := [.int 3, .int 1, .int x]) (rest := []) 3 q2433 q2435 qs75 q95 q2436 (by decide +kernel) ⟨Nat.le_of_ble_eq_true rfl, Nat.le_of_ble_eq_true rfl⟩ ⟨Nat.le_of_ble_eq_true rfl, Nat.le_of_ble_eq_true rfl⟩ (zRecv (q := (RX10, TX10, 29)) hz (zAt.mt 0 0 rfl rfl) rfl) rfl rfl (Nat.le_of_ble_eq_true rfl) dX10_voiced_12) (mM_f31 ad iv g sv w 3 hw (by decide) hK hs40 x) [0, 1, 2] rfl (by decide) rfl rfl ?_
  exact z_iret hQ hz hr hlk dX10_voiced_15 ⟨rfl, rfl⟩
set_option maxHeartbeats 400000 in
theorem mM_v1_4 {G : zG} (ad : Nat → Nat) (iv g : Nat → Int32) (sv : zV) (w : Nat) (hw : w < 12) (hK : g (152 + 4 * w) = nI 4) (hs40 : sv.2 ≤ 40) (x : Int32) : zMet G yX10_voiced (ws_ yX10_voiced cX10_voiced 3 (some .int)) (zRm 14 0 0 420) [.ref (ad 99), .int 1, .int x] [zO (ad 99) 10 (mFs ad (upd (upd iv 24 (nI w)) 23 (nI sv.2))), zI (G.2.2.1 0) (ad 0) 602 g, zI (G.2.2.1 0) (ad 22) 40 sv.1] (fun v9 b9 => v9 = some (.int (v1 (nI w) (g (152 + 4 * w + 1)) 4 x sv).1) ∧ b9 = [zO (ad 99) 10 (mFs ad (upd (upd iv 24 (nI w)) 23 (nI ((v1 (nI w) (g (152 + 4 * w + 1)) 4 x sv).2.2)))), zI (G.2.2.1 0) (ad 0) 602 g, zI (G.2.2.1 0) (ad 22) 40 ((v1 (nI w) (g (152 + 4 * w + 1)) 4 x sv).2.1)]) := by
  refine zMet.of (by decide +kernel) (Nat.le_of_ble_eq_true rfl) ?_
  intro p e s m args below meth c A hz hA hr hlk hnm9 Q hQ
  refine z_lv (lv' := [(0, .ref (ad 99)), (1, .int 1), (2, .int x)]) [0, 1, 2] rfl ?_
  refine z_aload_n hz dX10_voiced_0 0 rfl rfl ?_
  refine z_aload_n hz dX10_voiced_1 0 rfl rfl ?_
  refine z_aload_n hz dX10_voiced_2 0 rfl rfl ?_
  refine z_get (C := RX10) (T := TX10) (N := 29) hz in_X10 (zAt.mt 0 0 rfl rfl) rfl 24 (by decide) q1953 (fun _ h9 => h9) rfl dX10_voiced_3 ?_
  refine z_iconst hz 0 dX10_voiced_6 ki_0 ?_
  refine z_callRD (st2 := [.int (g (152 + 4 * w)), .ref (ad 99)]) hz zKp.mt (zk_V hz (rm := (zRm 0 0 0 0)) (As := [.int (nI w), .int 0]) (rest := [.ref (ad 99)]) 2 q2225 q2227 qs57 q95 q2228 (by decide +kernel) ⟨Nat.le_of_ble_eq_true rfl, Nat.le_of_ble_eq_true rfl⟩ ⟨Nat.le_of_ble_eq_true rfl, Nat.le_of_ble_eq_true rfl⟩ (zRecv (q := (RX10, TX10, 29)) hz (zAt.mt 0 0 rfl rfl) rfl) rfl rfl (Nat.le_of_ble_eq_true rfl) dX10_voiced_7) (mM_way2 ad (upd (upd iv 24 (nI w)) 23 (nI sv.2)) g w 0 (by omega)) (fun H9 L9 h9 => (zPc (zAt.mt 0 0 rfl rfl) h9 (zPc (zAt.mt 1 0 rfl rfl) h9 zP0))) rfl ?_
  refine z_top hK ?_
  refine z_top (y := 4) (by decide) ?_
  refine z_iload_n hz dX10_voiced_10 1 rfl rfl ?_
  refine z_iload_n hz dX10_voiced_11 2 rfl rfl ?_
  refine z_callD (bs2 := [zO (ad 99) 10 (mFs ad (upd (upd iv 24 (nI w)) 23 (nI ((b01 (nI w) 4 x sv).2.2)))), zI (G.2.2.1 0) (ad 0) 602 g, zI (G.2.2.1 0) (ad 22) 40 ((b01 (nI w) 4 x sv).2.1)]) (st2 := [.int ((b01 (nI w) 4 x sv).1)]) hz hA (zk_V hz (rm := (zRm 8 0 0 240)) (As := [.int 4, .int 1, .int x]) (rest := []) 3 q2433 q2435 qs75 q95 q2436 (by decide +kernel) ⟨Nat.le_of_ble_eq_true rfl, Nat.le_of_ble_eq_true rfl⟩ ⟨Nat.le_of_ble_eq_true rfl, Nat.le_of_ble_eq_true rfl⟩ (zRecv (q := (RX10, TX10, 29)) hz (zAt.mt 0 0 rfl rfl) rfl) rfl rfl (Nat.le_of_ble_eq_true rfl) dX10_voiced_12) (mM_f41 ad iv g sv w 4 hw (by decide) hK hs40 x) [0, 1, 2] rfl (by decide) rfl rfl ?_
  exact z_iret hQ hz hr hlk dX10_voiced_15 ⟨rfl, rfl⟩
set_option maxHeartbeats 400000 in
theorem mM_v1_5 {G : zG} (ad : Nat → Nat) (iv g : Nat → Int32) (sv : zV) (w : Nat) (hw : w < 12) (hK : g (152 + 4 * w) = nI 5) (hs40 : sv.2 ≤ 40) (x : Int32) : zMet G yX10_voiced (ws_ yX10_voiced cX10_voiced 3 (some .int)) (zRm 14 0 0 420) [.ref (ad 99), .int 1, .int x] [zO (ad 99) 10 (mFs ad (upd (upd iv 24 (nI w)) 23 (nI sv.2))), zI (G.2.2.1 0) (ad 0) 602 g, zI (G.2.2.1 0) (ad 22) 40 sv.1] (fun v9 b9 => v9 = some (.int (v1 (nI w) (g (152 + 4 * w + 1)) 5 x sv).1) ∧ b9 = [zO (ad 99) 10 (mFs ad (upd (upd iv 24 (nI w)) 23 (nI ((v1 (nI w) (g (152 + 4 * w + 1)) 5 x sv).2.2)))), zI (G.2.2.1 0) (ad 0) 602 g, zI (G.2.2.1 0) (ad 22) 40 ((v1 (nI w) (g (152 + 4 * w + 1)) 5 x sv).2.1)]) := by
  refine zMet.of (by decide +kernel) (Nat.le_of_ble_eq_true rfl) ?_
  intro p e s m args below meth c A hz hA hr hlk hnm9 Q hQ
  refine z_lv (lv' := [(0, .ref (ad 99)), (1, .int 1), (2, .int x)]) [0, 1, 2] rfl ?_
  refine z_aload_n hz dX10_voiced_0 0 rfl rfl ?_
  refine z_aload_n hz dX10_voiced_1 0 rfl rfl ?_
  refine z_aload_n hz dX10_voiced_2 0 rfl rfl ?_
  refine z_get (C := RX10) (T := TX10) (N := 29) hz in_X10 (zAt.mt 0 0 rfl rfl) rfl 24 (by decide) q1953 (fun _ h9 => h9) rfl dX10_voiced_3 ?_
  refine z_iconst hz 0 dX10_voiced_6 ki_0 ?_
  refine z_callRD (st2 := [.int (g (152 + 4 * w)), .ref (ad 99)]) hz zKp.mt (zk_V hz (rm := (zRm 0 0 0 0)) (As := [.int (nI w), .int 0]) (rest := [.ref (ad 99)]) 2 q2225 q2227 qs57 q95 q2228 (by decide +kernel) ⟨Nat.le_of_ble_eq_true rfl, Nat.le_of_ble_eq_true rfl⟩ ⟨Nat.le_of_ble_eq_true rfl, Nat.le_of_ble_eq_true rfl⟩ (zRecv (q := (RX10, TX10, 29)) hz (zAt.mt 0 0 rfl rfl) rfl) rfl rfl (Nat.le_of_ble_eq_true rfl) dX10_voiced_7) (mM_way2 ad (upd (upd iv 24 (nI w)) 23 (nI sv.2)) g w 0 (by omega)) (fun H9 L9 h9 => (zPc (zAt.mt 0 0 rfl rfl) h9 (zPc (zAt.mt 1 0 rfl rfl) h9 zP0))) rfl ?_
  refine z_top hK ?_
  refine z_top (y := 5) (by decide) ?_
  refine z_iload_n hz dX10_voiced_10 1 rfl rfl ?_
  refine z_iload_n hz dX10_voiced_11 2 rfl rfl ?_
  refine z_callD (bs2 := [zO (ad 99) 10 (mFs ad (upd (upd iv 24 (nI w)) 23 (nI ((b01 (nI w) 5 x sv).2.2)))), zI (G.2.2.1 0) (ad 0) 602 g, zI (G.2.2.1 0) (ad 22) 40 ((b01 (nI w) 5 x sv).2.1)]) (st2 := [.int ((b01 (nI w) 5 x sv).1)]) hz hA (zk_V hz (rm := (zRm 8 0 0 240)) (As := [.int 5, .int 1, .int x]) (rest := []) 3 q2433 q2435 qs75 q95 q2436 (by decide +kernel) ⟨Nat.le_of_ble_eq_true rfl, Nat.le_of_ble_eq_true rfl⟩ ⟨Nat.le_of_ble_eq_true rfl, Nat.le_of_ble_eq_true rfl⟩ (zRecv (q := (RX10, TX10, 29)) hz (zAt.mt 0 0 rfl rfl) rfl) rfl rfl (Nat.le_of_ble_eq_true rfl) dX10_voiced_12) (mM_f51 ad iv g sv w 5 hw (by decide) hK hs40 x) [0, 1, 2] rfl (by decide) rfl rfl ?_
  exact z_iret hQ hz hr hlk dX10_voiced_15 ⟨rfl, rfl⟩
set_option maxHeartbeats 400000 in
theorem mM_v1_6 {G : zG} (ad : Nat → Nat) (iv g : Nat → Int32) (sv : zV) (w : Nat) (hw : w < 12) (hK : g (152 + 4 * w) = nI 6) (hs40 : sv.2 ≤ 40) (x : Int32) : zMet G yX10_voiced (ws_ yX10_voiced cX10_voiced 3 (some .int)) (zRm 14 0 0 420) [.ref (ad 99), .int 1, .int x] [zO (ad 99) 10 (mFs ad (upd (upd iv 24 (nI w)) 23 (nI sv.2))), zI (G.2.2.1 0) (ad 0) 602 g, zI (G.2.2.1 0) (ad 22) 40 sv.1] (fun v9 b9 => v9 = some (.int (v1 (nI w) (g (152 + 4 * w + 1)) 6 x sv).1) ∧ b9 = [zO (ad 99) 10 (mFs ad (upd (upd iv 24 (nI w)) 23 (nI ((v1 (nI w) (g (152 + 4 * w + 1)) 6 x sv).2.2)))), zI (G.2.2.1 0) (ad 0) 602 g, zI (G.2.2.1 0) (ad 22) 40 ((v1 (nI w) (g (152 + 4 * w + 1)) 6 x sv).2.1)]) := by
  refine zMet.of (by decide +kernel) (Nat.le_of_ble_eq_true rfl) ?_
  intro p e s m args below meth c A hz hA hr hlk hnm9 Q hQ
  refine z_lv (lv' := [(0, .ref (ad 99)), (1, .int 1), (2, .int x)]) [0, 1, 2] rfl ?_
  refine z_aload_n hz dX10_voiced_0 0 rfl rfl ?_
  refine z_aload_n hz dX10_voiced_1 0 rfl rfl ?_
  refine z_aload_n hz dX10_voiced_2 0 rfl rfl ?_
  refine z_get (C := RX10) (T := TX10) (N := 29) hz in_X10 (zAt.mt 0 0 rfl rfl) rfl 24 (by decide) q1953 (fun _ h9 => h9) rfl dX10_voiced_3 ?_
  refine z_iconst hz 0 dX10_voiced_6 ki_0 ?_
  refine z_callRD (st2 := [.int (g (152 + 4 * w)), .ref (ad 99)]) hz zKp.mt (zk_V hz (rm := (zRm 0 0 0 0)) (As := [.int (nI w), .int 0]) (rest := [.ref (ad 99)]) 2 q2225 q2227 qs57 q95 q2228 (by decide +kernel) ⟨Nat.le_of_ble_eq_true rfl, Nat.le_of_ble_eq_true rfl⟩ ⟨Nat.le_of_ble_eq_true rfl, Nat.le_of_ble_eq_true rfl⟩ (zRecv (q := (RX10, TX10, 29)) hz (zAt.mt 0 0 rfl rfl) rfl) rfl rfl (Nat.le_of_ble_eq_true rfl) dX10_voiced_7) (mM_way2 ad (upd (upd iv 24 (nI w)) 23 (nI sv.2)) g w 0 (by omega)) (fun H9 L9 h9 => (zPc (zAt.mt 0 0 rfl rfl) h9 (zPc (zAt.mt 1 0 rfl rfl) h9 zP0))) rfl ?_
  refine z_top hK ?_
  refine z_top (y := 6) (by decide) ?_
  refine z_iload_n hz dX10_voiced_10 1 rfl rfl ?_
  refine z_iload_n hz dX10_voiced_11 2 rfl rfl ?_
  refine z_callD (bs2 := [zO (ad 99) 10 (mFs ad (upd (upd iv 24 (nI w)) 23 (nI ((b11 (nI w) (g (152 + 4 * w + 1)) 6 x sv).2.2)))), zI (G.2.2.1 0) (ad 0) 602 g, zI (G.2.2.1 0) (ad 22) 40 ((b11 (nI w) (g (152 + 4 * w + 1)) 6 x sv).2.1)]) (st2 := [.int ((b11 (nI w) (g (152 + 4 * w + 1)) 6 x sv).1)]) hz hA (zk_V hz (rm := (zRm 11 0 0 330)) (As := [.int 6, .int 1, .int x]) (rest := []) 3 q2433 q2435 qs75 q95 q2436 (by decide +kernel) ⟨Nat.le_of_ble_eq_true rfl, Nat.le_of_ble_eq_true rfl⟩ ⟨Nat.le_of_ble_eq_true rfl, Nat.le_of_ble_eq_true rfl⟩ (zRecv (q := (RX10, TX10, 29)) hz (zAt.mt 0 0 rfl rfl) rfl) rfl rfl (Nat.le_of_ble_eq_true rfl) dX10_voiced_12) (mM_f61 ad iv g sv w 6 hw (by decide) hK hs40 x) [0, 1, 2] rfl (by decide) rfl rfl ?_
  exact z_iret hQ hz hr hlk dX10_voiced_15 ⟨rfl, rfl⟩
set_option maxHeartbeats 400000 in
theorem mM_v1_7 {G : zG} (ad : Nat → Nat) (iv g : Nat → Int32) (sv : zV) (w : Nat) (hw : w < 12) (hK : g (152 + 4 * w) = nI 7) (hs40 : sv.2 ≤ 40) (x : Int32) : zMet G yX10_voiced (ws_ yX10_voiced cX10_voiced 3 (some .int)) (zRm 14 0 0 420) [.ref (ad 99), .int 1, .int x] [zO (ad 99) 10 (mFs ad (upd (upd iv 24 (nI w)) 23 (nI sv.2))), zI (G.2.2.1 0) (ad 0) 602 g, zI (G.2.2.1 0) (ad 22) 40 sv.1] (fun v9 b9 => v9 = some (.int (v1 (nI w) (g (152 + 4 * w + 1)) 7 x sv).1) ∧ b9 = [zO (ad 99) 10 (mFs ad (upd (upd iv 24 (nI w)) 23 (nI ((v1 (nI w) (g (152 + 4 * w + 1)) 7 x sv).2.2)))), zI (G.2.2.1 0) (ad 0) 602 g, zI (G.2.2.1 0) (ad 22) 40 ((v1 (nI w) (g (152 + 4 * w + 1)) 7 x sv).2.1)]) := by
  refine zMet.of (by decide +kernel) (Nat.le_of_ble_eq_true rfl) ?_
  intro p e s m args below meth c A hz hA hr hlk hnm9 Q hQ
  refine z_lv (lv' := [(0, .ref (ad 99)), (1, .int 1), (2, .int x)]) [0, 1, 2] rfl ?_
  refine z_aload_n hz dX10_voiced_0 0 rfl rfl ?_
  refine z_aload_n hz dX10_voiced_1 0 rfl rfl ?_
  refine z_aload_n hz dX10_voiced_2 0 rfl rfl ?_
  refine z_get (C := RX10) (T := TX10) (N := 29) hz in_X10 (zAt.mt 0 0 rfl rfl) rfl 24 (by decide) q1953 (fun _ h9 => h9) rfl dX10_voiced_3 ?_
  refine z_iconst hz 0 dX10_voiced_6 ki_0 ?_
  refine z_callRD (st2 := [.int (g (152 + 4 * w)), .ref (ad 99)]) hz zKp.mt (zk_V hz (rm := (zRm 0 0 0 0)) (As := [.int (nI w), .int 0]) (rest := [.ref (ad 99)]) 2 q2225 q2227 qs57 q95 q2228 (by decide +kernel) ⟨Nat.le_of_ble_eq_true rfl, Nat.le_of_ble_eq_true rfl⟩ ⟨Nat.le_of_ble_eq_true rfl, Nat.le_of_ble_eq_true rfl⟩ (zRecv (q := (RX10, TX10, 29)) hz (zAt.mt 0 0 rfl rfl) rfl) rfl rfl (Nat.le_of_ble_eq_true rfl) dX10_voiced_7) (mM_way2 ad (upd (upd iv 24 (nI w)) 23 (nI sv.2)) g w 0 (by omega)) (fun H9 L9 h9 => (zPc (zAt.mt 0 0 rfl rfl) h9 (zPc (zAt.mt 1 0 rfl rfl) h9 zP0))) rfl ?_
  refine z_top hK ?_
  refine z_top (y := 7) (by decide) ?_
  refine z_iload_n hz dX10_voiced_10 1 rfl rfl ?_
  refine z_iload_n hz dX10_voiced_11 2 rfl rfl ?_
  refine z_callD (bs2 := [zO (ad 99) 10 (mFs ad (upd (upd iv 24 (nI w)) 23 (nI ((b01 (nI w) 7 x sv).2.2)))), zI (G.2.2.1 0) (ad 0) 602 g, zI (G.2.2.1 0) (ad 22) 40 ((b01 (nI w) 7 x sv).2.1)]) (st2 := [.int ((b01 (nI w) 7 x sv).1)]) hz hA (zk_V hz (rm := (zRm 8 0 0 240)) (As := [.int 7, .int 1, .int x]) (rest := []) 3 q2433 q2435 qs75 q95 q2436 (by decide +kernel) ⟨Nat.le_of_ble_eq_true rfl, Nat.le_of_ble_eq_true rfl⟩ ⟨Nat.le_of_ble_eq_true rfl, Nat.le_of_ble_eq_true rfl⟩ (zRecv (q := (RX10, TX10, 29)) hz (zAt.mt 0 0 rfl rfl) rfl) rfl rfl (Nat.le_of_ble_eq_true rfl) dX10_voiced_12) (mM_f71 ad iv g sv w 7 hw (by decide) hK hs40 x) [0, 1, 2] rfl (by decide) rfl rfl ?_
  exact z_iret hQ hz hr hlk dX10_voiced_15 ⟨rfl, rfl⟩
theorem mM_v1 {G : zG} (ad : Nat → Nat) (iv g : Nat → Int32) (sv : zV) (w K : Nat) (hw : w < 12) (hK8 : K < 8) (hK : g (152 + 4 * w) = nI K) (hs40 : sv.2 ≤ 40) (x : Int32) : zMet G yX10_voiced (ws_ yX10_voiced cX10_voiced 3 (some .int)) (zRm 14 0 0 420) [.ref (ad 99), .int 1, .int x] [zO (ad 99) 10 (mFs ad (upd (upd iv 24 (nI w)) 23 (nI sv.2))), zI (G.2.2.1 0) (ad 0) 602 g, zI (G.2.2.1 0) (ad 22) 40 sv.1] (fun v9 b9 => v9 = some (.int (v1 (nI w) (g (152 + 4 * w + 1)) K x sv).1) ∧ b9 = [zO (ad 99) 10 (mFs ad (upd (upd iv 24 (nI w)) 23 (nI ((v1 (nI w) (g (152 + 4 * w + 1)) K x sv).2.2)))), zI (G.2.2.1 0) (ad 0) 602 g, zI (G.2.2.1 0) (ad 22) 40 ((v1 (nI w) (g (152 + 4 * w + 1)) K x sv).2.1)]) := by
  have h8 : K = 0 ∨ K = 1 ∨ K = 2 ∨ K = 3 ∨ K = 4 ∨ K = 5 ∨ K = 6 ∨ K = 7 := by omega
  rcases h8 with e8 | e8 | e8 | e8 | e8 | e8 | e8 | e8 <;> subst e8
  · exact mM_v1_0 ad iv g sv w hw hK hs40 x
  · exact mM_v1_1 ad iv g sv w hw hK hs40 x
  · exact mM_v1_2 ad iv g sv w hw hK hs40 x
  · exact mM_v1_3 ad iv g sv w hw hK hs40 x
  · exact mM_v1_4 ad iv g sv w hw hK hs40 x
  · exact mM_v1_5 ad iv g sv w hw hK hs40 x
  · exact mM_v1_6 ad iv g sv w hw hK hs40 x
  · exact mM_v1_7 ad iv g sv w hw hK hs40 x
set_option maxHeartbeats 400000 in
theorem mM_b03 {G : zG} (ad : Nat → Nat) (iv g : Nat → Int32) (sv : zV) (w K : Nat) (hw : w < 12) (hK8 : K < 8) (hK : g (152 + 4 * w) = nI K) (hs40 : sv.2 ≤ 40) (x : Int32) : zMet G yX10_body (ws_ yX10_body cX10_body 5 (some .int)) (zRm 15 0 0 450) [.ref (ad 99), .int 0, .int 3, .int x] [zO (ad 99) 10 (mFs ad (upd (upd iv 24 (nI w)) 23 (nI sv.2))), zI (G.2.2.1 0) (ad 0) 602 g, zI (G.2.2.1 0) (ad 22) 40 sv.1] (fun v9 b9 => v9 = some (.int (b03 (nI w) (g (152 + 4 * w + 1)) K x sv).1) ∧ b9 = [zO (ad 99) 10 (mFs ad (upd (upd iv 24 (nI w)) 23 (nI ((b03 (nI w) (g (152 + 4 * w + 1)) K x sv).2.2)))), zI (G.2.2.1 0) (ad 0) 602 g, zI (G.2.2.1 0) (ad 22) 40 ((b03 (nI w) (g (152 + 4 * w + 1)) K x sv).2.1)]) := by
  refine zMet.of (by decide +kernel) (Nat.le_of_ble_eq_true rfl) ?_
  intro p e s m args below meth c A hz hA hr hlk hnm9 Q hQ
  refine z_lv (lv' := [(0, .ref (ad 99)), (1, .int 0), (2, .int 3), (3, .int x)]) [0, 1, 2, 3] rfl ?_
  refine z_iconst hz 4 dX10_body_0 ki_4 ?_
  refine z_iload_n hz dX10_body_1 1 rfl rfl ?_
  refine z_imul hz dX10_body_2 ?_
  refine z_top (y := 0) (by decide) ?_
  refine z_iload_n hz dX10_body_3 2 rfl rfl ?_
  refine z_iadd hz dX10_body_4 ?_
  refine z_top (y := 3) (by decide) ?_
  refine z_tabIn hz 173 178 dX10_body_5 (by decide) (by decide) (by decide) (by decide) ?_
  refine z_aload_n hz dX10_body_178 0 rfl rfl ?_
  refine z_bipush hz 13 dX10_body_179 kb_13 ?_
  refine z_callD (bs2 := [zO (ad 99) 10 (mFs ad (upd (upd iv 24 (nI w)) 23 (nI ((bgF 13 sv).2)))), zI (G.2.2.1 0) (ad 0) 602 g, zI (G.2.2.1 0) (ad 22) 40 ((bgF 13 sv).1)]) (st2 := []) hz hA (zk_V hz (rm := (zRm 0 0 0 0)) (As := [.int 13]) (rest := []) 1 q2444 q2446 qs77 q95 q2447 (by decide +kernel) ⟨Nat.le_of_ble_eq_true rfl, Nat.le_of_ble_eq_true rfl⟩ ⟨Nat.le_of_ble_eq_true rfl, Nat.le_of_ble_eq_true rfl⟩ (zRecv (q := (RX10, TX10, 29)) hz (zAt.mt 0 0 rfl rfl) rfl) rfl rfl (Nat.le_of_ble_eq_true rfl) dX10_body_181) (mM_began ad iv sv w 13 hs40) [0, 2] rfl (by decide) rfl rfl ?_
  refine z_aload_n hz dX10_body_184 0 rfl rfl ?_
  refine z_iconst hz 1 dX10_body_185 ki_1 ?_
  refine z_iload_n hz dX10_body_186 3 rfl rfl ?_
  refine z_callD (bs2 := [zO (ad 99) 10 (mFs ad (upd (upd iv 24 (nI w)) 23 (nI ((v1 (nI w) (g (152 + 4 * w + 1)) K x (bgF 13 sv)).2.2)))), zI (G.2.2.1 0) (ad 0) 602 g, zI (G.2.2.1 0) (ad 22) 40 ((v1 (nI w) (g (152 + 4 * w + 1)) K x (bgF 13 sv)).2.1)]) (st2 := [.int ((v1 (nI w) (g (152 + 4 * w + 1)) K x (bgF 13 sv)).1)]) hz hA (zk_V hz (rm := (zRm 14 0 0 420)) (As := [.int 1, .int x]) (rest := []) 2 q2429 q2431 qs74 q95 q2432 (by decide +kernel) ⟨Nat.le_of_ble_eq_true rfl, Nat.le_of_ble_eq_true rfl⟩ ⟨Nat.le_of_ble_eq_true rfl, Nat.le_of_ble_eq_true rfl⟩ (zRecv (q := (RX10, TX10, 29)) hz (zAt.mt 0 0 rfl rfl) rfl) rfl rfl (Nat.le_of_ble_eq_true rfl) dX10_body_187) (mM_v1 ad iv g (bgF 13 sv) w K hw hK8 hK (bgF_le hs40) x) [0, 1, 2] rfl (by decide) rfl rfl ?_
  refine z_istore (lv' := [(0, .ref (ad 99)), (1, .int 0), (2, .int 3), (3, .int x), (4, .int ((v1 (nI w) (g (152 + 4 * w + 1)) K x (bgF 13 sv)).1))]) hz [1, 2, 3, 4, 0] dX10_body_190 (by decide) rfl ?_
  refine z_iload hz dX10_body_192 4 rfl ?_
  refine z_aload_n hz dX10_body_194 0 rfl rfl ?_
  refine z_iconst hz 2 dX10_body_195 ki_2 ?_
  refine z_iload_n hz dX10_body_196 3 rfl rfl ?_
  refine z_callD (bs2 := [zO (ad 99) 10 (mFs ad (upd (upd iv 24 (nI w)) 23 (nI ((v2 (nI w) (g (152 + 4 * w + 1)) K x (v1 (nI w) (g (152 + 4 * w + 1)) K x (bgF 13 sv)).2).2.2)))), zI (G.2.2.1 0) (ad 0) 602 g, zI (G.2.2.1 0) (ad 22) 40 ((v2 (nI w) (g (152 + 4 * w + 1)) K x (v1 (nI w) (g (152 + 4 * w + 1)) K x (bgF 13 sv)).2).2.1)]) (st2 := [.int ((v2 (nI w) (g (152 + 4 * w + 1)) K x (v1 (nI w) (g (152 + 4 * w + 1)) K x (bgF 13 sv)).2).1), .int ((v1 (nI w) (g (152 + 4 * w + 1)) K x (bgF 13 sv)).1)]) hz hA (zk_V hz (rm := (zRm 9 0 0 270)) (As := [.int 2, .int x]) (rest := [.int ((v1 (nI w) (g (152 + 4 * w + 1)) K x (bgF 13 sv)).1)]) 2 q2429 q2431 qs74 q95 q2432 (by decide +kernel) ⟨Nat.le_of_ble_eq_true rfl, Nat.le_of_ble_eq_true rfl⟩ ⟨Nat.le_of_ble_eq_true rfl, Nat.le_of_ble_eq_true rfl⟩ (zRecv (q := (RX10, TX10, 29)) hz (zAt.mt 0 0 rfl rfl) rfl) rfl rfl (Nat.le_of_ble_eq_true rfl) dX10_body_197) (mM_v2 ad iv g (v1 (nI w) (g (152 + 4 * w + 1)) K x (bgF 13 sv)).2 w K hw hK8 hK (v1_le (bgF_le hs40)) x) [0, 1, 2] rfl (by decide) rfl rfl ?_
  refine z_ixor hz dX10_body_200 ?_
  exact z_iret hQ hz hr hlk dX10_body_201 ⟨rfl, rfl⟩
set_option maxHeartbeats 400000 in
theorem mM_f03 {G : zG} (ad : Nat → Nat) (iv g : Nat → Int32) (sv : zV) (w K : Nat) (hw : w < 12) (hK8 : K < 8) (hK : g (152 + 4 * w) = nI K) (hs40 : sv.2 ≤ 40) (x : Int32) : zMet G yX10_bodyFrom (ws_ yX10_bodyFrom cX10_bodyFrom 5 (some .int)) (zRm 16 0 0 480) [.ref (ad 99), .int 0, .int 3, .int x] [zO (ad 99) 10 (mFs ad (upd (upd iv 24 (nI w)) 23 (nI sv.2))), zI (G.2.2.1 0) (ad 0) 602 g, zI (G.2.2.1 0) (ad 22) 40 sv.1] (fun v9 b9 => v9 = some (.int (b03 (nI w) (g (152 + 4 * w + 1)) K x sv).1) ∧ b9 = [zO (ad 99) 10 (mFs ad (upd (upd iv 24 (nI w)) 23 (nI ((b03 (nI w) (g (152 + 4 * w + 1)) K x sv).2.2)))), zI (G.2.2.1 0) (ad 0) 602 g, zI (G.2.2.1 0) (ad 22) 40 ((b03 (nI w) (g (152 + 4 * w + 1)) K x sv).2.1)]) := by
  refine zMet.of (by decide +kernel) (Nat.le_of_ble_eq_true rfl) ?_
  intro p e s m args below meth c A hz hA hr hlk hnm9 Q hQ
  refine z_lv (lv' := [(0, .ref (ad 99)), (1, .int 0), (2, .int 3), (3, .int x)]) [0, 1, 2, 3] rfl ?_
  refine z_iload_n hz dX10_bodyFrom_0 1 rfl rfl ?_
  refine z_istore (lv' := [(0, .ref (ad 99)), (1, .int 0), (2, .int 3), (3, .int x), (4, .int 0)]) hz [1, 2, 3, 4, 0] dX10_bodyFrom_1 (by decide) rfl ?_
  refine z_iload hz dX10_bodyFrom_3 4 rfl ?_
  refine z_iload_n hz dX10_bodyFrom_5 2 rfl rfl ?_
  refine z_callRD (st2 := [.int (zB (ownP 0 3))]) hz zKp.mt (zk_S hz (rm := (zRm 0 0 0 0)) (As := [.int 0, .int 3]) (rest := []) 2 q2437 q2438 q95 q2439 (by decide +kernel) ⟨Nat.le_of_ble_eq_true rfl, Nat.le_of_ble_eq_true rfl⟩ ⟨Nat.le_of_ble_eq_true rfl, Nat.le_of_ble_eq_true rfl⟩ rfl rfl (Nat.le_of_ble_eq_true rfl) dX10_bodyFrom_6) (mM_hasOwn 0 3 (by decide) (by decide)) (fun _ _ _ => zP0) rfl ?_
  refine z_ifB_neT hz 22 dX10_bodyFrom_9 (by decide) (by decide) ?_
  refine z_aload_n hz dX10_bodyFrom_22 0 rfl rfl ?_
  refine z_iload hz dX10_bodyFrom_23 4 rfl ?_
  refine z_iload_n hz dX10_bodyFrom_25 2 rfl rfl ?_
  refine z_iload_n hz dX10_bodyFrom_26 3 rfl rfl ?_
  refine z_callD (bs2 := [zO (ad 99) 10 (mFs ad (upd (upd iv 24 (nI w)) 23 (nI ((b03 (nI w) (g (152 + 4 * w + 1)) K x sv).2.2)))), zI (G.2.2.1 0) (ad 0) 602 g, zI (G.2.2.1 0) (ad 22) 40 ((b03 (nI w) (g (152 + 4 * w + 1)) K x sv).2.1)]) (st2 := [.int ((b03 (nI w) (g (152 + 4 * w + 1)) K x sv).1)]) hz hA (zk_V hz (rm := (zRm 15 0 0 450)) (As := [.int 0, .int 3, .int x]) (rest := []) 3 q2440 q2442 qs76 q95 q2443 (by decide +kernel) ⟨Nat.le_of_ble_eq_true rfl, Nat.le_of_ble_eq_true rfl⟩ ⟨Nat.le_of_ble_eq_true rfl, Nat.le_of_ble_eq_true rfl⟩ (zRecv (q := (RX10, TX10, 29)) hz (zAt.mt 0 0 rfl rfl) rfl) rfl rfl (Nat.le_of_ble_eq_true rfl) dX10_bodyFrom_27) (mM_b03 ad iv g sv w K hw hK8 hK hs40 x) [0, 1, 2] rfl (by decide) rfl rfl ?_
  exact z_iret hQ hz hr hlk dX10_bodyFrom_30 ⟨rfl, rfl⟩
set_option maxHeartbeats 400000 in
theorem mM_f13 {G : zG} (ad : Nat → Nat) (iv g : Nat → Int32) (sv : zV) (w K : Nat) (hw : w < 12) (hK8 : K < 8) (hK : g (152 + 4 * w) = nI K) (hs40 : sv.2 ≤ 40) (x : Int32) : zMet G yX10_bodyFrom (ws_ yX10_bodyFrom cX10_bodyFrom 5 (some .int)) (zRm 16 0 0 480) [.ref (ad 99), .int 1, .int 3, .int x] [zO (ad 99) 10 (mFs ad (upd (upd iv 24 (nI w)) 23 (nI sv.2))), zI (G.2.2.1 0) (ad 0) 602 g, zI (G.2.2.1 0) (ad 22) 40 sv.1] (fun v9 b9 => v9 = some (.int (b03 (nI w) (g (152 + 4 * w + 1)) K x sv).1) ∧ b9 = [zO (ad 99) 10 (mFs ad (upd (upd iv 24 (nI w)) 23 (nI ((b03 (nI w) (g (152 + 4 * w + 1)) K x sv).2.2)))), zI (G.2.2.1 0) (ad 0) 602 g, zI (G.2.2.1 0) (ad 22) 40 ((b03 (nI w) (g (152 + 4 * w + 1)) K x sv).2.1)]) := by
  refine zMet.of (by decide +kernel) (Nat.le_of_ble_eq_true rfl) ?_
  intro p e s m args below meth c A hz hA hr hlk hnm9 Q hQ
  refine z_lv (lv' := [(0, .ref (ad 99)), (1, .int 1), (2, .int 3), (3, .int x)]) [0, 1, 2, 3] rfl ?_
  refine z_iload_n hz dX10_bodyFrom_0 1 rfl rfl ?_
  refine z_istore (lv' := [(0, .ref (ad 99)), (1, .int 1), (2, .int 3), (3, .int x), (4, .int 1)]) hz [1, 2, 3, 4, 0] dX10_bodyFrom_1 (by decide) rfl ?_
  refine z_iload hz dX10_bodyFrom_3 4 rfl ?_
  refine z_iload_n hz dX10_bodyFrom_5 2 rfl rfl ?_
  refine z_callRD (st2 := [.int (zB (ownP 1 3))]) hz zKp.mt (zk_S hz (rm := (zRm 0 0 0 0)) (As := [.int 1, .int 3]) (rest := []) 2 q2437 q2438 q95 q2439 (by decide +kernel) ⟨Nat.le_of_ble_eq_true rfl, Nat.le_of_ble_eq_true rfl⟩ ⟨Nat.le_of_ble_eq_true rfl, Nat.le_of_ble_eq_true rfl⟩ rfl rfl (Nat.le_of_ble_eq_true rfl) dX10_bodyFrom_6) (mM_hasOwn 1 3 (by decide) (by decide)) (fun _ _ _ => zP0) rfl ?_
  refine z_ifB_neF hz 22 dX10_bodyFrom_9 (by decide) (by decide) ?_
  refine z_iload hz dX10_bodyFrom_12 4 rfl ?_
  refine z_callRD (st2 := [.int 0]) hz zKp.mt (zk_S hz (rm := (zRm 0 0 0 0)) (As := [.int 1]) (rest := []) 1 q2229 q2230 q95 q2231 (by decide +kernel) ⟨Nat.le_of_ble_eq_true rfl, Nat.le_of_ble_eq_true rfl⟩ ⟨Nat.le_of_ble_eq_true rfl, Nat.le_of_ble_eq_true rfl⟩ rfl rfl (Nat.le_of_ble_eq_true rfl) dX10_bodyFrom_14) (mM_above 1 (by decide)) (fun _ _ _ => zP0) rfl ?_
  refine z_istore (lv' := [(0, .ref (ad 99)), (1, .int 1), (2, .int 3), (3, .int x), (4, .int 0)]) hz [1, 2, 3, 4, 0] dX10_bodyFrom_17 (by decide) rfl ?_
  refine z_goto hz 3 dX10_bodyFrom_19 (by decide) ?_
  refine z_iload hz dX10_bodyFrom_3 4 rfl ?_
  refine z_iload_n hz dX10_bodyFrom_5 2 rfl rfl ?_
  refine z_callRD (st2 := [.int (zB (ownP 0 3))]) hz zKp.mt (zk_S hz (rm := (zRm 0 0 0 0)) (As := [.int 0, .int 3]) (rest := []) 2 q2437 q2438 q95 q2439 (by decide +kernel) ⟨Nat.le_of_ble_eq_true rfl, Nat.le_of_ble_eq_true rfl⟩ ⟨Nat.le_of_ble_eq_true rfl, Nat.le_of_ble_eq_true rfl⟩ rfl rfl (Nat.le_of_ble_eq_true rfl) dX10_bodyFrom_6) (mM_hasOwn 0 3 (by decide) (by decide)) (fun _ _ _ => zP0) rfl ?_
  refine z_ifB_neT hz 22 dX10_bodyFrom_9 (by decide) (by decide) ?_
  refine z_aload_n hz dX10_bodyFrom_22 0 rfl rfl ?_
  refine z_iload hz dX10_bodyFrom_23 4 rfl ?_
  refine z_iload_n hz dX10_bodyFrom_25 2 rfl rfl ?_
  refine z_iload_n hz dX10_bodyFrom_26 3 rfl rfl ?_
  refine z_callD (bs2 := [zO (ad 99) 10 (mFs ad (upd (upd iv 24 (nI w)) 23 (nI ((b03 (nI w) (g (152 + 4 * w + 1)) K x sv).2.2)))), zI (G.2.2.1 0) (ad 0) 602 g, zI (G.2.2.1 0) (ad 22) 40 ((b03 (nI w) (g (152 + 4 * w + 1)) K x sv).2.1)]) (st2 := [.int ((b03 (nI w) (g (152 + 4 * w + 1)) K x sv).1)]) hz hA (zk_V hz (rm := (zRm 15 0 0 450)) (As := [.int 0, .int 3, .int x]) (rest := []) 3 q2440 q2442 qs76 q95 q2443 (by decide +kernel) ⟨Nat.le_of_ble_eq_true rfl, Nat.le_of_ble_eq_true rfl⟩ ⟨Nat.le_of_ble_eq_true rfl, Nat.le_of_ble_eq_true rfl⟩ (zRecv (q := (RX10, TX10, 29)) hz (zAt.mt 0 0 rfl rfl) rfl) rfl rfl (Nat.le_of_ble_eq_true rfl) dX10_bodyFrom_27) (mM_b03 ad iv g sv w K hw hK8 hK hs40 x) [0, 1, 2] rfl (by decide) rfl rfl ?_
  exact z_iret hQ hz hr hlk dX10_bodyFrom_30 ⟨rfl, rfl⟩
set_option maxHeartbeats 400000 in
theorem mM_b43 {G : zG} (ad : Nat → Nat) (iv g : Nat → Int32) (sv : zV) (w K : Nat) (hw : w < 12) (hK8 : K < 8) (hK : g (152 + 4 * w) = nI K) (hs40 : sv.2 ≤ 40) (x : Int32) : zMet G yX10_body (ws_ yX10_body cX10_body 5 (some .int)) (zRm 17 0 0 510) [.ref (ad 99), .int 4, .int 3, .int x] [zO (ad 99) 10 (mFs ad (upd (upd iv 24 (nI w)) 23 (nI sv.2))), zI (G.2.2.1 0) (ad 0) 602 g, zI (G.2.2.1 0) (ad 22) 40 sv.1] (fun v9 b9 => v9 = some (.int (b43 (nI w) (g (152 + 4 * w + 1)) K x sv).1) ∧ b9 = [zO (ad 99) 10 (mFs ad (upd (upd iv 24 (nI w)) 23 (nI ((b43 (nI w) (g (152 + 4 * w + 1)) K x sv).2.2)))), zI (G.2.2.1 0) (ad 0) 602 g, zI (G.2.2.1 0) (ad 22) 40 ((b43 (nI w) (g (152 + 4 * w + 1)) K x sv).2.1)]) := by
  refine zMet.of (by decide +kernel) (Nat.le_of_ble_eq_true rfl) ?_
  intro p e s m args below meth c A hz hA hr hlk hnm9 Q hQ
  refine z_lv (lv' := [(0, .ref (ad 99)), (1, .int 4), (2, .int 3), (3, .int x)]) [0, 1, 2, 3] rfl ?_
  refine z_iconst hz 4 dX10_body_0 ki_4 ?_
  refine z_iload_n hz dX10_body_1 1 rfl rfl ?_
  refine z_imul hz dX10_body_2 ?_
  refine z_top (y := 16) (by decide) ?_
  refine z_iload_n hz dX10_body_3 2 rfl rfl ?_
  refine z_iadd hz dX10_body_4 ?_
  refine z_top (y := 19) (by decide) ?_
  refine z_tabIn hz 270 275 dX10_body_5 (by decide) (by decide) (by decide) (by decide) ?_
  refine z_aload_n hz dX10_body_275 0 rfl rfl ?_
  refine z_bipush hz 50 dX10_body_276 kb_50 ?_
  refine z_callD (bs2 := [zO (ad 99) 10 (mFs ad (upd (upd iv 24 (nI w)) 23 (nI ((bgF 50 sv).2)))), zI (G.2.2.1 0) (ad 0) 602 g, zI (G.2.2.1 0) (ad 22) 40 ((bgF 50 sv).1)]) (st2 := []) hz hA (zk_V hz (rm := (zRm 0 0 0 0)) (As := [.int 50]) (rest := []) 1 q2444 q2446 qs77 q95 q2447 (by decide +kernel) ⟨Nat.le_of_ble_eq_true rfl, Nat.le_of_ble_eq_true rfl⟩ ⟨Nat.le_of_ble_eq_true rfl, Nat.le_of_ble_eq_true rfl⟩ (zRecv (q := (RX10, TX10, 29)) hz (zAt.mt 0 0 rfl rfl) rfl) rfl rfl (Nat.le_of_ble_eq_true rfl) dX10_body_278) (mM_began ad iv sv w 50 hs40) [0, 2] rfl (by decide) rfl rfl ?_
  refine z_aload_n hz dX10_body_281 0 rfl rfl ?_
  refine z_iconst hz 0 dX10_body_282 ki_0 ?_
  refine z_iconst hz 3 dX10_body_283 ki_3 ?_
  refine z_iload_n hz dX10_body_284 3 rfl rfl ?_
  refine z_callD (bs2 := [zO (ad 99) 10 (mFs ad (upd (upd iv 24 (nI w)) 23 (nI ((b03 (nI w) (g (152 + 4 * w + 1)) K x (bgF 50 sv)).2.2)))), zI (G.2.2.1 0) (ad 0) 602 g, zI (G.2.2.1 0) (ad 22) 40 ((b03 (nI w) (g (152 + 4 * w + 1)) K x (bgF 50 sv)).2.1)]) (st2 := [.int ((b03 (nI w) (g (152 + 4 * w + 1)) K x (bgF 50 sv)).1)]) hz hA (zk_V hz (rm := (zRm 16 0 0 480)) (As := [.int 0, .int 3, .int x]) (rest := []) 3 q2433 q2435 qs75 q95 q2436 (by decide +kernel) ⟨Nat.le_of_ble_eq_true rfl, Nat.le_of_ble_eq_true rfl⟩ ⟨Nat.le_of_ble_eq_true rfl, Nat.le_of_ble_eq_true rfl⟩ (zRecv (q := (RX10, TX10, 29)) hz (zAt.mt 0 0 rfl rfl) rfl) rfl rfl (Nat.le_of_ble_eq_true rfl) dX10_body_285) (mM_f03 ad iv g (bgF 50 sv) w K hw hK8 hK (bgF_le hs40) x) [0, 1, 2] rfl (by decide) rfl rfl ?_
  refine z_istore (lv' := [(0, .ref (ad 99)), (1, .int 4), (2, .int 3), (3, .int x), (4, .int ((b03 (nI w) (g (152 + 4 * w + 1)) K x (bgF 50 sv)).1))]) hz [1, 2, 3, 4, 0] dX10_body_288 (by decide) rfl ?_
  refine z_iload hz dX10_body_290 4 rfl ?_
  refine z_aload_n hz dX10_body_292 0 rfl rfl ?_
  refine z_iconst hz 0 dX10_body_293 ki_0 ?_
  refine z_iconst hz 2 dX10_body_294 ki_2 ?_
  refine z_callD (bs2 := [zO (ad 99) 10 (mFs ad (upd (upd iv 24 (nI w)) 23 (nI ((v0 (nI w) K 2 (b03 (nI w) (g (152 + 4 * w + 1)) K x (bgF 50 sv)).2).2.2)))), zI (G.2.2.1 0) (ad 0) 602 g, zI (G.2.2.1 0) (ad 22) 40 ((v0 (nI w) K 2 (b03 (nI w) (g (152 + 4 * w + 1)) K x (bgF 50 sv)).2).2.1)]) (st2 := [.int ((v0 (nI w) K 2 (b03 (nI w) (g (152 + 4 * w + 1)) K x (bgF 50 sv)).2).1), .int ((b03 (nI w) (g (152 + 4 * w + 1)) K x (bgF 50 sv)).1)]) hz hA (zk_V hz (rm := (zRm 6 0 0 180)) (As := [.int 0, .int 2]) (rest := [.int ((b03 (nI w) (g (152 + 4 * w + 1)) K x (bgF 50 sv)).1)]) 2 q2429 q2431 qs74 q95 q2432 (by decide +kernel) ⟨Nat.le_of_ble_eq_true rfl, Nat.le_of_ble_eq_true rfl⟩ ⟨Nat.le_of_ble_eq_true rfl, Nat.le_of_ble_eq_true rfl⟩ (zRecv (q := (RX10, TX10, 29)) hz (zAt.mt 0 0 rfl rfl) rfl) rfl rfl (Nat.le_of_ble_eq_true rfl) dX10_body_295) (mM_v0 ad iv g (b03 (nI w) (g (152 + 4 * w + 1)) K x (bgF 50 sv)).2 w K hw hK8 hK (b03_le (bgF_le hs40)) 2) [0, 1, 2] rfl (by decide) rfl rfl ?_
  refine z_isub hz dX10_body_298 ?_
  exact z_iret hQ hz hr hlk dX10_body_299 ⟨rfl, rfl⟩
set_option maxHeartbeats 400000 in
theorem mM_b63 {G : zG} (ad : Nat → Nat) (iv g : Nat → Int32) (sv : zV) (w K : Nat) (hw : w < 12) (hK8 : K < 8) (hK : g (152 + 4 * w) = nI K) (hs40 : sv.2 ≤ 40) (x : Int32) : zMet G yX10_body (ws_ yX10_body cX10_body 5 (some .int)) (zRm 17 0 0 510) [.ref (ad 99), .int 6, .int 3, .int x] [zO (ad 99) 10 (mFs ad (upd (upd iv 24 (nI w)) 23 (nI sv.2))), zI (G.2.2.1 0) (ad 0) 602 g, zI (G.2.2.1 0) (ad 22) 40 sv.1] (fun v9 b9 => v9 = some (.int (b63 (nI w) (g (152 + 4 * w + 1)) K x sv).1) ∧ b9 = [zO (ad 99) 10 (mFs ad (upd (upd iv 24 (nI w)) 23 (nI ((b63 (nI w) (g (152 + 4 * w + 1)) K x sv).2.2)))), zI (G.2.2.1 0) (ad 0) 602 g, zI (G.2.2.1 0) (ad 22) 40 ((b63 (nI w) (g (152 + 4 * w + 1)) K x sv).2.1)]) := by
  refine zMet.of (by decide +kernel) (Nat.le_of_ble_eq_true rfl) ?_
  intro p e s m args below meth c A hz hA hr hlk hnm9 Q hQ
  refine z_lv (lv' := [(0, .ref (ad 99)), (1, .int 6), (2, .int 3), (3, .int x)]) [0, 1, 2, 3] rfl ?_
  refine z_iconst hz 4 dX10_body_0 ki_4 ?_
  refine z_iload_n hz dX10_body_1 1 rfl rfl ?_
  refine z_imul hz dX10_body_2 ?_
  refine z_top (y := 24) (by decide) ?_
  refine z_iload_n hz dX10_body_3 2 rfl rfl ?_
  refine z_iadd hz dX10_body_4 ?_
  refine z_top (y := 27) (by decide) ?_
  refine z_tabIn hz 329 334 dX10_body_5 (by decide) (by decide) (by decide) (by decide) ?_
  refine z_aload_n hz dX10_body_334 0 rfl rfl ?_
  refine z_bipush hz 70 dX10_body_335 kb_70 ?_
  refine z_callD (bs2 := [zO (ad 99) 10 (mFs ad (upd (upd iv 24 (nI w)) 23 (nI ((bgF 70 sv).2)))), zI (G.2.2.1 0) (ad 0) 602 g, zI (G.2.2.1 0) (ad 22) 40 ((bgF 70 sv).1)]) (st2 := []) hz hA (zk_V hz (rm := (zRm 0 0 0 0)) (As := [.int 70]) (rest := []) 1 q2444 q2446 qs77 q95 q2447 (by decide +kernel) ⟨Nat.le_of_ble_eq_true rfl, Nat.le_of_ble_eq_true rfl⟩ ⟨Nat.le_of_ble_eq_true rfl, Nat.le_of_ble_eq_true rfl⟩ (zRecv (q := (RX10, TX10, 29)) hz (zAt.mt 0 0 rfl rfl) rfl) rfl rfl (Nat.le_of_ble_eq_true rfl) dX10_body_337) (mM_began ad iv sv w 70 hs40) [0, 2] rfl (by decide) rfl rfl ?_
  refine z_aload_n hz dX10_body_340 0 rfl rfl ?_
  refine z_iconst hz 1 dX10_body_341 ki_1 ?_
  refine z_iload_n hz dX10_body_342 3 rfl rfl ?_
  refine z_callD (bs2 := [zO (ad 99) 10 (mFs ad (upd (upd iv 24 (nI w)) 23 (nI ((v1 (nI w) (g (152 + 4 * w + 1)) K x (bgF 70 sv)).2.2)))), zI (G.2.2.1 0) (ad 0) 602 g, zI (G.2.2.1 0) (ad 22) 40 ((v1 (nI w) (g (152 + 4 * w + 1)) K x (bgF 70 sv)).2.1)]) (st2 := [.int ((v1 (nI w) (g (152 + 4 * w + 1)) K x (bgF 70 sv)).1)]) hz hA (zk_V hz (rm := (zRm 14 0 0 420)) (As := [.int 1, .int x]) (rest := []) 2 q2429 q2431 qs74 q95 q2432 (by decide +kernel) ⟨Nat.le_of_ble_eq_true rfl, Nat.le_of_ble_eq_true rfl⟩ ⟨Nat.le_of_ble_eq_true rfl, Nat.le_of_ble_eq_true rfl⟩ (zRecv (q := (RX10, TX10, 29)) hz (zAt.mt 0 0 rfl rfl) rfl) rfl rfl (Nat.le_of_ble_eq_true rfl) dX10_body_343) (mM_v1 ad iv g (bgF 70 sv) w K hw hK8 hK (bgF_le hs40) x) [0, 1, 2] rfl (by decide) rfl rfl ?_
  refine z_istore (lv' := [(0, .ref (ad 99)), (1, .int 6), (2, .int 3), (3, .int x), (4, .int ((v1 (nI w) (g (152 + 4 * w + 1)) K x (bgF 70 sv)).1))]) hz [1, 2, 3, 4, 0] dX10_body_346 (by decide) rfl ?_
  refine z_iload hz dX10_body_348 4 rfl ?_
  refine z_aload_n hz dX10_body_350 0 rfl rfl ?_
  refine z_iconst hz 1 dX10_body_351 ki_1 ?_
  refine z_iconst hz 3 dX10_body_352 ki_3 ?_
  refine z_iload_n hz dX10_body_353 3 rfl rfl ?_
  refine z_callD (bs2 := [zO (ad 99) 10 (mFs ad (upd (upd iv 24 (nI w)) 23 (nI ((b03 (nI w) (g (152 + 4 * w + 1)) K x (v1 (nI w) (g (152 + 4 * w + 1)) K x (bgF 70 sv)).2).2.2)))), zI (G.2.2.1 0) (ad 0) 602 g, zI (G.2.2.1 0) (ad 22) 40 ((b03 (nI w) (g (152 + 4 * w + 1)) K x (v1 (nI w) (g (152 + 4 * w + 1)) K x (bgF 70 sv)).2).2.1)]) (st2 := [.int ((b03 (nI w) (g (152 + 4 * w + 1)) K x (v1 (nI w) (g (152 + 4 * w + 1)) K x (bgF 70 sv)).2).1), .int ((v1 (nI w) (g (152 + 4 * w + 1)) K x (bgF 70 sv)).1)]) hz hA (zk_V hz (rm := (zRm 16 0 0 480)) (As := [.int 1, .int 3, .int x]) (rest := [.int ((v1 (nI w) (g (152 + 4 * w + 1)) K x (bgF 70 sv)).1)]) 3 q2433 q2435 qs75 q95 q2436 (by decide +kernel) ⟨Nat.le_of_ble_eq_true rfl, Nat.le_of_ble_eq_true rfl⟩ ⟨Nat.le_of_ble_eq_true rfl, Nat.le_of_ble_eq_true rfl⟩ (zRecv (q := (RX10, TX10, 29)) hz (zAt.mt 0 0 rfl rfl) rfl) rfl rfl (Nat.le_of_ble_eq_true rfl) dX10_body_354) (mM_f13 ad iv g (v1 (nI w) (g (152 + 4 * w + 1)) K x (bgF 70 sv)).2 w K hw hK8 hK (v1_le (bgF_le hs40)) x) [0, 1, 2] rfl (by decide) rfl rfl ?_
  refine z_isub hz dX10_body_357 ?_
  exact z_iret hQ hz hr hlk dX10_body_358 ⟨rfl, rfl⟩
set_option maxHeartbeats 400000 in
theorem mM_f23 {G : zG} (ad : Nat → Nat) (iv g : Nat → Int32) (sv : zV) (w K : Nat) (hw : w < 12) (hK8 : K < 8) (hK : g (152 + 4 * w) = nI K) (hs40 : sv.2 ≤ 40) (x : Int32) : zMet G yX10_bodyFrom (ws_ yX10_bodyFrom cX10_bodyFrom 5 (some .int)) (zRm 16 0 0 480) [.ref (ad 99), .int 2, .int 3, .int x] [zO (ad 99) 10 (mFs ad (upd (upd iv 24 (nI w)) 23 (nI sv.2))), zI (G.2.2.1 0) (ad 0) 602 g, zI (G.2.2.1 0) (ad 22) 40 sv.1] (fun v9 b9 => v9 = some (.int (b03 (nI w) (g (152 + 4 * w + 1)) K x sv).1) ∧ b9 = [zO (ad 99) 10 (mFs ad (upd (upd iv 24 (nI w)) 23 (nI ((b03 (nI w) (g (152 + 4 * w + 1)) K x sv).2.2)))), zI (G.2.2.1 0) (ad 0) 602 g, zI (G.2.2.1 0) (ad 22) 40 ((b03 (nI w) (g (152 + 4 * w + 1)) K x sv).2.1)]) := by
  refine zMet.of (by decide +kernel) (Nat.le_of_ble_eq_true rfl) ?_
  intro p e s m args below meth c A hz hA hr hlk hnm9 Q hQ
  refine z_lv (lv' := [(0, .ref (ad 99)), (1, .int 2), (2, .int 3), (3, .int x)]) [0, 1, 2, 3] rfl ?_
  refine z_iload_n hz dX10_bodyFrom_0 1 rfl rfl ?_
  refine z_istore (lv' := [(0, .ref (ad 99)), (1, .int 2), (2, .int 3), (3, .int x), (4, .int 2)]) hz [1, 2, 3, 4, 0] dX10_bodyFrom_1 (by decide) rfl ?_
  refine z_iload hz dX10_bodyFrom_3 4 rfl ?_
  refine z_iload_n hz dX10_bodyFrom_5 2 rfl rfl ?_
  refine z_callRD (st2 := [.int (zB (ownP 2 3))]) hz zKp.mt (zk_S hz (rm := (zRm 0 0 0 0)) (As := [.int 2, .int 3]) (rest := []) 2 q2437 q2438 q95 q2439 (by decide +kernel) ⟨Nat.le_of_ble_eq_true rfl, Nat.le_of_ble_eq_true rfl⟩ ⟨Nat.le_of_ble_eq_true rfl, Nat.le_of_ble_eq_true rfl⟩ rfl rfl (Nat.le_of_ble_eq_true rfl) dX10_bodyFrom_6) (mM_hasOwn 2 3 (by decide) (by decide)) (fun _ _ _ => zP0) rfl ?_
  refine z_ifB_neF hz 22 dX10_bodyFrom_9 (by decide) (by decide) ?_
  refine z_iload hz dX10_bodyFrom_12 4 rfl ?_
  refine z_callRD (st2 := [.int 0]) hz zKp.mt (zk_S hz (rm := (zRm 0 0 0 0)) (As := [.int 2]) (rest := []) 1 q2229 q2230 q95 q2231 (by decide +kernel) ⟨Nat.le_of_ble_eq_true rfl, Nat.le_of_ble_eq_true rfl⟩ ⟨Nat.le_of_ble_eq_true rfl, Nat.le_of_ble_eq_true rfl⟩ rfl rfl (Nat.le_of_ble_eq_true rfl) dX10_bodyFrom_14) (mM_above 2 (by decide)) (fun _ _ _ => zP0) rfl ?_
  refine z_istore (lv' := [(0, .ref (ad 99)), (1, .int 2), (2, .int 3), (3, .int x), (4, .int 0)]) hz [1, 2, 3, 4, 0] dX10_bodyFrom_17 (by decide) rfl ?_
  refine z_goto hz 3 dX10_bodyFrom_19 (by decide) ?_
  refine z_iload hz dX10_bodyFrom_3 4 rfl ?_
  refine z_iload_n hz dX10_bodyFrom_5 2 rfl rfl ?_
  refine z_callRD (st2 := [.int (zB (ownP 0 3))]) hz zKp.mt (zk_S hz (rm := (zRm 0 0 0 0)) (As := [.int 0, .int 3]) (rest := []) 2 q2437 q2438 q95 q2439 (by decide +kernel) ⟨Nat.le_of_ble_eq_true rfl, Nat.le_of_ble_eq_true rfl⟩ ⟨Nat.le_of_ble_eq_true rfl, Nat.le_of_ble_eq_true rfl⟩ rfl rfl (Nat.le_of_ble_eq_true rfl) dX10_bodyFrom_6) (mM_hasOwn 0 3 (by decide) (by decide)) (fun _ _ _ => zP0) rfl ?_
  refine z_ifB_neT hz 22 dX10_bodyFrom_9 (by decide) (by decide) ?_
  refine z_aload_n hz dX10_bodyFrom_22 0 rfl rfl ?_
  refine z_iload hz dX10_bodyFrom_23 4 rfl ?_
  refine z_iload_n hz dX10_bodyFrom_25 2 rfl rfl ?_
  refine z_iload_n hz dX10_bodyFrom_26 3 rfl rfl ?_
  refine z_callD (bs2 := [zO (ad 99) 10 (mFs ad (upd (upd iv 24 (nI w)) 23 (nI ((b03 (nI w) (g (152 + 4 * w + 1)) K x sv).2.2)))), zI (G.2.2.1 0) (ad 0) 602 g, zI (G.2.2.1 0) (ad 22) 40 ((b03 (nI w) (g (152 + 4 * w + 1)) K x sv).2.1)]) (st2 := [.int ((b03 (nI w) (g (152 + 4 * w + 1)) K x sv).1)]) hz hA (zk_V hz (rm := (zRm 15 0 0 450)) (As := [.int 0, .int 3, .int x]) (rest := []) 3 q2440 q2442 qs76 q95 q2443 (by decide +kernel) ⟨Nat.le_of_ble_eq_true rfl, Nat.le_of_ble_eq_true rfl⟩ ⟨Nat.le_of_ble_eq_true rfl, Nat.le_of_ble_eq_true rfl⟩ (zRecv (q := (RX10, TX10, 29)) hz (zAt.mt 0 0 rfl rfl) rfl) rfl rfl (Nat.le_of_ble_eq_true rfl) dX10_bodyFrom_27) (mM_b03 ad iv g sv w K hw hK8 hK hs40 x) [0, 1, 2] rfl (by decide) rfl rfl ?_
  exact z_iret hQ hz hr hlk dX10_bodyFrom_30 ⟨rfl, rfl⟩
set_option maxHeartbeats 400000 in
theorem mM_f33 {G : zG} (ad : Nat → Nat) (iv g : Nat → Int32) (sv : zV) (w K : Nat) (hw : w < 12) (hK8 : K < 8) (hK : g (152 + 4 * w) = nI K) (hs40 : sv.2 ≤ 40) (x : Int32) : zMet G yX10_bodyFrom (ws_ yX10_bodyFrom cX10_bodyFrom 5 (some .int)) (zRm 16 0 0 480) [.ref (ad 99), .int 3, .int 3, .int x] [zO (ad 99) 10 (mFs ad (upd (upd iv 24 (nI w)) 23 (nI sv.2))), zI (G.2.2.1 0) (ad 0) 602 g, zI (G.2.2.1 0) (ad 22) 40 sv.1] (fun v9 b9 => v9 = some (.int (b03 (nI w) (g (152 + 4 * w + 1)) K x sv).1) ∧ b9 = [zO (ad 99) 10 (mFs ad (upd (upd iv 24 (nI w)) 23 (nI ((b03 (nI w) (g (152 + 4 * w + 1)) K x sv).2.2)))), zI (G.2.2.1 0) (ad 0) 602 g, zI (G.2.2.1 0) (ad 22) 40 ((b03 (nI w) (g (152 + 4 * w + 1)) K x sv).2.1)]) := by
  refine zMet.of (by decide +kernel) (Nat.le_of_ble_eq_true rfl) ?_
  intro p e s m args below meth c A hz hA hr hlk hnm9 Q hQ
  refine z_lv (lv' := [(0, .ref (ad 99)), (1, .int 3), (2, .int 3), (3, .int x)]) [0, 1, 2, 3] rfl ?_
  refine z_iload_n hz dX10_bodyFrom_0 1 rfl rfl ?_
  refine z_istore (lv' := [(0, .ref (ad 99)), (1, .int 3), (2, .int 3), (3, .int x), (4, .int 3)]) hz [1, 2, 3, 4, 0] dX10_bodyFrom_1 (by decide) rfl ?_
  refine z_iload hz dX10_bodyFrom_3 4 rfl ?_
  refine z_iload_n hz dX10_bodyFrom_5 2 rfl rfl ?_
  refine z_callRD (st2 := [.int (zB (ownP 3 3))]) hz zKp.mt (zk_S hz (rm := (zRm 0 0 0 0)) (As := [.int 3, .int 3]) (rest := []) 2 q2437 q2438 q95 q2439 (by decide +kernel) ⟨Nat.le_of_ble_eq_true rfl, Nat.le_of_ble_eq_true rfl⟩ ⟨Nat.le_of_ble_eq_true rfl, Nat.le_of_ble_eq_true rfl⟩ rfl rfl (Nat.le_of_ble_eq_true rfl) dX10_bodyFrom_6) (mM_hasOwn 3 3 (by decide) (by decide)) (fun _ _ _ => zP0) rfl ?_
  refine z_ifB_neF hz 22 dX10_bodyFrom_9 (by decide) (by decide) ?_
  refine z_iload hz dX10_bodyFrom_12 4 rfl ?_
  refine z_callRD (st2 := [.int 1]) hz zKp.mt (zk_S hz (rm := (zRm 0 0 0 0)) (As := [.int 3]) (rest := []) 1 q2229 q2230 q95 q2231 (by decide +kernel) ⟨Nat.le_of_ble_eq_true rfl, Nat.le_of_ble_eq_true rfl⟩ ⟨Nat.le_of_ble_eq_true rfl, Nat.le_of_ble_eq_true rfl⟩ rfl rfl (Nat.le_of_ble_eq_true rfl) dX10_bodyFrom_14) (mM_above 3 (by decide)) (fun _ _ _ => zP0) rfl ?_
  refine z_istore (lv' := [(0, .ref (ad 99)), (1, .int 3), (2, .int 3), (3, .int x), (4, .int 1)]) hz [1, 2, 3, 4, 0] dX10_bodyFrom_17 (by decide) rfl ?_
  refine z_goto hz 3 dX10_bodyFrom_19 (by decide) ?_
  refine z_iload hz dX10_bodyFrom_3 4 rfl ?_
  refine z_iload_n hz dX10_bodyFrom_5 2 rfl rfl ?_
  refine z_callRD (st2 := [.int (zB (ownP 1 3))]) hz zKp.mt (zk_S hz (rm := (zRm 0 0 0 0)) (As := [.int 1, .int 3]) (rest := []) 2 q2437 q2438 q95 q2439 (by decide +kernel) ⟨Nat.le_of_ble_eq_true rfl, Nat.le_of_ble_eq_true rfl⟩ ⟨Nat.le_of_ble_eq_true rfl, Nat.le_of_ble_eq_true rfl⟩ rfl rfl (Nat.le_of_ble_eq_true rfl) dX10_bodyFrom_6) (mM_hasOwn 1 3 (by decide) (by decide)) (fun _ _ _ => zP0) rfl ?_
  refine z_ifB_neF hz 22 dX10_bodyFrom_9 (by decide) (by decide) ?_
  refine z_iload hz dX10_bodyFrom_12 4 rfl ?_
  refine z_callRD (st2 := [.int 0]) hz zKp.mt (zk_S hz (rm := (zRm 0 0 0 0)) (As := [.int 1]) (rest := []) 1 q2229 q2230 q95 q2231 (by decide +kernel) ⟨Nat.le_of_ble_eq_true rfl, Nat.le_of_ble_eq_true rfl⟩ ⟨Nat.le_of_ble_eq_true rfl, Nat.le_of_ble_eq_true rfl⟩ rfl rfl (Nat.le_of_ble_eq_true rfl) dX10_bodyFrom_14) (mM_above 1 (by decide)) (fun _ _ _ => zP0) rfl ?_
  refine z_istore (lv' := [(0, .ref (ad 99)), (1, .int 3), (2, .int 3), (3, .int x), (4, .int 0)]) hz [1, 2, 3, 4, 0] dX10_bodyFrom_17 (by decide) rfl ?_
  refine z_goto hz 3 dX10_bodyFrom_19 (by decide) ?_
  refine z_iload hz dX10_bodyFrom_3 4 rfl ?_
  refine z_iload_n hz dX10_bodyFrom_5 2 rfl rfl ?_
  refine z_callRD (st2 := [.int (zB (ownP 0 3))]) hz zKp.mt (zk_S hz (rm := (zRm 0 0 0 0)) (As := [.int 0, .int 3]) (rest := []) 2 q2437 q2438 q95 q2439 (by decide +kernel) ⟨Nat.le_of_ble_eq_true rfl, Nat.le_of_ble_eq_true rfl⟩ ⟨Nat.le_of_ble_eq_true rfl, Nat.le_of_ble_eq_true rfl⟩ rfl rfl (Nat.le_of_ble_eq_true rfl) dX10_bodyFrom_6) (mM_hasOwn 0 3 (by decide) (by decide)) (fun _ _ _ => zP0) rfl ?_
  refine z_ifB_neT hz 22 dX10_bodyFrom_9 (by decide) (by decide) ?_
  refine z_aload_n hz dX10_bodyFrom_22 0 rfl rfl ?_
  refine z_iload hz dX10_bodyFrom_23 4 rfl ?_
  refine z_iload_n hz dX10_bodyFrom_25 2 rfl rfl ?_
  refine z_iload_n hz dX10_bodyFrom_26 3 rfl rfl ?_
  refine z_callD (bs2 := [zO (ad 99) 10 (mFs ad (upd (upd iv 24 (nI w)) 23 (nI ((b03 (nI w) (g (152 + 4 * w + 1)) K x sv).2.2)))), zI (G.2.2.1 0) (ad 0) 602 g, zI (G.2.2.1 0) (ad 22) 40 ((b03 (nI w) (g (152 + 4 * w + 1)) K x sv).2.1)]) (st2 := [.int ((b03 (nI w) (g (152 + 4 * w + 1)) K x sv).1)]) hz hA (zk_V hz (rm := (zRm 15 0 0 450)) (As := [.int 0, .int 3, .int x]) (rest := []) 3 q2440 q2442 qs76 q95 q2443 (by decide +kernel) ⟨Nat.le_of_ble_eq_true rfl, Nat.le_of_ble_eq_true rfl⟩ ⟨Nat.le_of_ble_eq_true rfl, Nat.le_of_ble_eq_true rfl⟩ (zRecv (q := (RX10, TX10, 29)) hz (zAt.mt 0 0 rfl rfl) rfl) rfl rfl (Nat.le_of_ble_eq_true rfl) dX10_bodyFrom_27) (mM_b03 ad iv g sv w K hw hK8 hK hs40 x) [0, 1, 2] rfl (by decide) rfl rfl ?_
  exact z_iret hQ hz hr hlk dX10_bodyFrom_30 ⟨rfl, rfl⟩
set_option maxHeartbeats 400000 in
theorem mM_f43 {G : zG} (ad : Nat → Nat) (iv g : Nat → Int32) (sv : zV) (w K : Nat) (hw : w < 12) (hK8 : K < 8) (hK : g (152 + 4 * w) = nI K) (hs40 : sv.2 ≤ 40) (x : Int32) : zMet G yX10_bodyFrom (ws_ yX10_bodyFrom cX10_bodyFrom 5 (some .int)) (zRm 18 0 0 540) [.ref (ad 99), .int 4, .int 3, .int x] [zO (ad 99) 10 (mFs ad (upd (upd iv 24 (nI w)) 23 (nI sv.2))), zI (G.2.2.1 0) (ad 0) 602 g, zI (G.2.2.1 0) (ad 22) 40 sv.1] (fun v9 b9 => v9 = some (.int (b43 (nI w) (g (152 + 4 * w + 1)) K x sv).1) ∧ b9 = [zO (ad 99) 10 (mFs ad (upd (upd iv 24 (nI w)) 23 (nI ((b43 (nI w) (g (152 + 4 * w + 1)) K x sv).2.2)))), zI (G.2.2.1 0) (ad 0) 602 g, zI (G.2.2.1 0) (ad 22) 40 ((b43 (nI w) (g (152 + 4 * w + 1)) K x sv).2.1)]) := by
  refine zMet.of (by decide +kernel) (Nat.le_of_ble_eq_true rfl) ?_
  intro p e s m args below meth c A hz hA hr hlk hnm9 Q hQ
  refine z_lv (lv' := [(0, .ref (ad 99)), (1, .int 4), (2, .int 3), (3, .int x)]) [0, 1, 2, 3] rfl ?_
  refine z_iload_n hz dX10_bodyFrom_0 1 rfl rfl ?_
  refine z_istore (lv' := [(0, .ref (ad 99)), (1, .int 4), (2, .int 3), (3, .int x), (4, .int 4)]) hz [1, 2, 3, 4, 0] dX10_bodyFrom_1 (by decide) rfl ?_
  refine z_iload hz dX10_bodyFrom_3 4 rfl ?_
  refine z_iload_n hz dX10_bodyFrom_5 2 rfl rfl ?_
  refine z_callRD (st2 := [.int (zB (ownP 4 3))]) hz zKp.mt (zk_S hz (rm := (zRm 0 0 0 0)) (As := [.int 4, .int 3]) (rest := []) 2 q2437 q2438 q95 q2439 (by decide +kernel) ⟨Nat.le_of_ble_eq_true rfl, Nat.le_of_ble_eq_true rfl⟩ ⟨Nat.le_of_ble_eq_true rfl, Nat.le_of_ble_eq_true rfl⟩ rfl rfl (Nat.le_of_ble_eq_true rfl) dX10_bodyFrom_6) (mM_hasOwn 4 3 (by decide) (by decide)) (fun _ _ _ => zP0) rfl ?_
  refine z_ifB_neT hz 22 dX10_bodyFrom_9 (by decide) (by decide) ?_
  refine z_aload_n hz dX10_bodyFrom_22 0 rfl rfl ?_
  refine z_iload hz dX10_bodyFrom_23 4 rfl ?_
  refine z_iload_n hz dX10_bodyFrom_25 2 rfl rfl ?_
  refine z_iload_n hz dX10_bodyFrom_26 3 rfl rfl ?_
  refine z_callD (bs2 := [zO (ad 99) 10 (mFs ad (upd (upd iv 24 (nI w)) 23 (nI ((b43 (nI w) (g (152 + 4 * w + 1)) K x sv).2.2)))), zI (G.2.2.1 0) (ad 0) 602 g, zI (G.2.2.1 0) (ad 22) 40 ((b43 (nI w) (g (152 + 4 * w + 1)) K x sv).2.1)]) (st2 := [.int ((b43 (nI w) (g (152 + 4 * w + 1)) K x sv).1)]) hz hA (zk_V hz (rm := (zRm 17 0 0 510)) (As := [.int 4, .int 3, .int x]) (rest := []) 3 q2440 q2442 qs76 q95 q2443 (by decide +kernel) ⟨Nat.le_of_ble_eq_true rfl, Nat.le_of_ble_eq_true rfl⟩ ⟨Nat.le_of_ble_eq_true rfl, Nat.le_of_ble_eq_true rfl⟩ (zRecv (q := (RX10, TX10, 29)) hz (zAt.mt 0 0 rfl rfl) rfl) rfl rfl (Nat.le_of_ble_eq_true rfl) dX10_bodyFrom_27) (mM_b43 ad iv g sv w K hw hK8 hK hs40 x) [0, 1, 2] rfl (by decide) rfl rfl ?_
  exact z_iret hQ hz hr hlk dX10_bodyFrom_30 ⟨rfl, rfl⟩
set_option maxHeartbeats 400000 in
theorem mM_f53 {G : zG} (ad : Nat → Nat) (iv g : Nat → Int32) (sv : zV) (w K : Nat) (hw : w < 12) (hK8 : K < 8) (hK : g (152 + 4 * w) = nI K) (hs40 : sv.2 ≤ 40) (x : Int32) : zMet G yX10_bodyFrom (ws_ yX10_bodyFrom cX10_bodyFrom 5 (some .int)) (zRm 16 0 0 480) [.ref (ad 99), .int 5, .int 3, .int x] [zO (ad 99) 10 (mFs ad (upd (upd iv 24 (nI w)) 23 (nI sv.2))), zI (G.2.2.1 0) (ad 0) 602 g, zI (G.2.2.1 0) (ad 22) 40 sv.1] (fun v9 b9 => v9 = some (.int (b03 (nI w) (g (152 + 4 * w + 1)) K x sv).1) ∧ b9 = [zO (ad 99) 10 (mFs ad (upd (upd iv 24 (nI w)) 23 (nI ((b03 (nI w) (g (152 + 4 * w + 1)) K x sv).2.2)))), zI (G.2.2.1 0) (ad 0) 602 g, zI (G.2.2.1 0) (ad 22) 40 ((b03 (nI w) (g (152 + 4 * w + 1)) K x sv).2.1)]) := by
  refine zMet.of (by decide +kernel) (Nat.le_of_ble_eq_true rfl) ?_
  intro p e s m args below meth c A hz hA hr hlk hnm9 Q hQ
  refine z_lv (lv' := [(0, .ref (ad 99)), (1, .int 5), (2, .int 3), (3, .int x)]) [0, 1, 2, 3] rfl ?_
  refine z_iload_n hz dX10_bodyFrom_0 1 rfl rfl ?_
  refine z_istore (lv' := [(0, .ref (ad 99)), (1, .int 5), (2, .int 3), (3, .int x), (4, .int 5)]) hz [1, 2, 3, 4, 0] dX10_bodyFrom_1 (by decide) rfl ?_
  refine z_iload hz dX10_bodyFrom_3 4 rfl ?_
  refine z_iload_n hz dX10_bodyFrom_5 2 rfl rfl ?_
  refine z_callRD (st2 := [.int (zB (ownP 5 3))]) hz zKp.mt (zk_S hz (rm := (zRm 0 0 0 0)) (As := [.int 5, .int 3]) (rest := []) 2 q2437 q2438 q95 q2439 (by decide +kernel) ⟨Nat.le_of_ble_eq_true rfl, Nat.le_of_ble_eq_true rfl⟩ ⟨Nat.le_of_ble_eq_true rfl, Nat.le_of_ble_eq_true rfl⟩ rfl rfl (Nat.le_of_ble_eq_true rfl) dX10_bodyFrom_6) (mM_hasOwn 5 3 (by decide) (by decide)) (fun _ _ _ => zP0) rfl ?_
  refine z_ifB_neF hz 22 dX10_bodyFrom_9 (by decide) (by decide) ?_
  refine z_iload hz dX10_bodyFrom_12 4 rfl ?_
  refine z_callRD (st2 := [.int 0]) hz zKp.mt (zk_S hz (rm := (zRm 0 0 0 0)) (As := [.int 5]) (rest := []) 1 q2229 q2230 q95 q2231 (by decide +kernel) ⟨Nat.le_of_ble_eq_true rfl, Nat.le_of_ble_eq_true rfl⟩ ⟨Nat.le_of_ble_eq_true rfl, Nat.le_of_ble_eq_true rfl⟩ rfl rfl (Nat.le_of_ble_eq_true rfl) dX10_bodyFrom_14) (mM_above 5 (by decide)) (fun _ _ _ => zP0) rfl ?_
  refine z_istore (lv' := [(0, .ref (ad 99)), (1, .int 5), (2, .int 3), (3, .int x), (4, .int 0)]) hz [1, 2, 3, 4, 0] dX10_bodyFrom_17 (by decide) rfl ?_
  refine z_goto hz 3 dX10_bodyFrom_19 (by decide) ?_
  refine z_iload hz dX10_bodyFrom_3 4 rfl ?_
  refine z_iload_n hz dX10_bodyFrom_5 2 rfl rfl ?_
  refine z_callRD (st2 := [.int (zB (ownP 0 3))]) hz zKp.mt (zk_S hz (rm := (zRm 0 0 0 0)) (As := [.int 0, .int 3]) (rest := []) 2 q2437 q2438 q95 q2439 (by decide +kernel) ⟨Nat.le_of_ble_eq_true rfl, Nat.le_of_ble_eq_true rfl⟩ ⟨Nat.le_of_ble_eq_true rfl, Nat.le_of_ble_eq_true rfl⟩ rfl rfl (Nat.le_of_ble_eq_true rfl) dX10_bodyFrom_6) (mM_hasOwn 0 3 (by decide) (by decide)) (fun _ _ _ => zP0) rfl ?_
  refine z_ifB_neT hz 22 dX10_bodyFrom_9 (by decide) (by decide) ?_
  refine z_aload_n hz dX10_bodyFrom_22 0 rfl rfl ?_
  refine z_iload hz dX10_bodyFrom_23 4 rfl ?_
  refine z_iload_n hz dX10_bodyFrom_25 2 rfl rfl ?_
  refine z_iload_n hz dX10_bodyFrom_26 3 rfl rfl ?_
  refine z_callD (bs2 := [zO (ad 99) 10 (mFs ad (upd (upd iv 24 (nI w)) 23 (nI ((b03 (nI w) (g (152 + 4 * w + 1)) K x sv).2.2)))), zI (G.2.2.1 0) (ad 0) 602 g, zI (G.2.2.1 0) (ad 22) 40 ((b03 (nI w) (g (152 + 4 * w + 1)) K x sv).2.1)]) (st2 := [.int ((b03 (nI w) (g (152 + 4 * w + 1)) K x sv).1)]) hz hA (zk_V hz (rm := (zRm 15 0 0 450)) (As := [.int 0, .int 3, .int x]) (rest := []) 3 q2440 q2442 qs76 q95 q2443 (by decide +kernel) ⟨Nat.le_of_ble_eq_true rfl, Nat.le_of_ble_eq_true rfl⟩ ⟨Nat.le_of_ble_eq_true rfl, Nat.le_of_ble_eq_true rfl⟩ (zRecv (q := (RX10, TX10, 29)) hz (zAt.mt 0 0 rfl rfl) rfl) rfl rfl (Nat.le_of_ble_eq_true rfl) dX10_bodyFrom_27) (mM_b03 ad iv g sv w K hw hK8 hK hs40 x) [0, 1, 2] rfl (by decide) rfl rfl ?_
  exact z_iret hQ hz hr hlk dX10_bodyFrom_30 ⟨rfl, rfl⟩
set_option maxHeartbeats 400000 in
theorem mM_f63 {G : zG} (ad : Nat → Nat) (iv g : Nat → Int32) (sv : zV) (w K : Nat) (hw : w < 12) (hK8 : K < 8) (hK : g (152 + 4 * w) = nI K) (hs40 : sv.2 ≤ 40) (x : Int32) : zMet G yX10_bodyFrom (ws_ yX10_bodyFrom cX10_bodyFrom 5 (some .int)) (zRm 18 0 0 540) [.ref (ad 99), .int 6, .int 3, .int x] [zO (ad 99) 10 (mFs ad (upd (upd iv 24 (nI w)) 23 (nI sv.2))), zI (G.2.2.1 0) (ad 0) 602 g, zI (G.2.2.1 0) (ad 22) 40 sv.1] (fun v9 b9 => v9 = some (.int (b63 (nI w) (g (152 + 4 * w + 1)) K x sv).1) ∧ b9 = [zO (ad 99) 10 (mFs ad (upd (upd iv 24 (nI w)) 23 (nI ((b63 (nI w) (g (152 + 4 * w + 1)) K x sv).2.2)))), zI (G.2.2.1 0) (ad 0) 602 g, zI (G.2.2.1 0) (ad 22) 40 ((b63 (nI w) (g (152 + 4 * w + 1)) K x sv).2.1)]) := by
  refine zMet.of (by decide +kernel) (Nat.le_of_ble_eq_true rfl) ?_
  intro p e s m args below meth c A hz hA hr hlk hnm9 Q hQ
  refine z_lv (lv' := [(0, .ref (ad 99)), (1, .int 6), (2, .int 3), (3, .int x)]) [0, 1, 2, 3] rfl ?_
  refine z_iload_n hz dX10_bodyFrom_0 1 rfl rfl ?_
  refine z_istore (lv' := [(0, .ref (ad 99)), (1, .int 6), (2, .int 3), (3, .int x), (4, .int 6)]) hz [1, 2, 3, 4, 0] dX10_bodyFrom_1 (by decide) rfl ?_
  refine z_iload hz dX10_bodyFrom_3 4 rfl ?_
  refine z_iload_n hz dX10_bodyFrom_5 2 rfl rfl ?_
  refine z_callRD (st2 := [.int (zB (ownP 6 3))]) hz zKp.mt (zk_S hz (rm := (zRm 0 0 0 0)) (As := [.int 6, .int 3]) (rest := []) 2 q2437 q2438 q95 q2439 (by decide +kernel) ⟨Nat.le_of_ble_eq_true rfl, Nat.le_of_ble_eq_true rfl⟩ ⟨Nat.le_of_ble_eq_true rfl, Nat.le_of_ble_eq_true rfl⟩ rfl rfl (Nat.le_of_ble_eq_true rfl) dX10_bodyFrom_6) (mM_hasOwn 6 3 (by decide) (by decide)) (fun _ _ _ => zP0) rfl ?_
  refine z_ifB_neT hz 22 dX10_bodyFrom_9 (by decide) (by decide) ?_
  refine z_aload_n hz dX10_bodyFrom_22 0 rfl rfl ?_
  refine z_iload hz dX10_bodyFrom_23 4 rfl ?_
  refine z_iload_n hz dX10_bodyFrom_25 2 rfl rfl ?_
  refine z_iload_n hz dX10_bodyFrom_26 3 rfl rfl ?_
  refine z_callD (bs2 := [zO (ad 99) 10 (mFs ad (upd (upd iv 24 (nI w)) 23 (nI ((b63 (nI w) (g (152 + 4 * w + 1)) K x sv).2.2)))), zI (G.2.2.1 0) (ad 0) 602 g, zI (G.2.2.1 0) (ad 22) 40 ((b63 (nI w) (g (152 + 4 * w + 1)) K x sv).2.1)]) (st2 := [.int ((b63 (nI w) (g (152 + 4 * w + 1)) K x sv).1)]) hz hA (zk_V hz (rm := (zRm 17 0 0 510)) (As := [.int 6, .int 3, .int x]) (rest := []) 3 q2440 q2442 qs76 q95 q2443 (by decide +kernel) ⟨Nat.le_of_ble_eq_true rfl, Nat.le_of_ble_eq_true rfl⟩ ⟨Nat.le_of_ble_eq_true rfl, Nat.le_of_ble_eq_true rfl⟩ (zRecv (q := (RX10, TX10, 29)) hz (zAt.mt 0 0 rfl rfl) rfl) rfl rfl (Nat.le_of_ble_eq_true rfl) dX10_bodyFrom_27) (mM_b63 ad iv g sv w K hw hK8 hK hs40 x) [0, 1, 2] rfl (by decide) rfl rfl ?_
  exact z_iret hQ hz hr hlk dX10_bodyFrom_30 ⟨rfl, rfl⟩
set_option maxHeartbeats 400000 in
theorem mM_f73 {G : zG} (ad : Nat → Nat) (iv g : Nat → Int32) (sv : zV) (w K : Nat) (hw : w < 12) (hK8 : K < 8) (hK : g (152 + 4 * w) = nI K) (hs40 : sv.2 ≤ 40) (x : Int32) : zMet G yX10_bodyFrom (ws_ yX10_bodyFrom cX10_bodyFrom 5 (some .int)) (zRm 16 0 0 480) [.ref (ad 99), .int 7, .int 3, .int x] [zO (ad 99) 10 (mFs ad (upd (upd iv 24 (nI w)) 23 (nI sv.2))), zI (G.2.2.1 0) (ad 0) 602 g, zI (G.2.2.1 0) (ad 22) 40 sv.1] (fun v9 b9 => v9 = some (.int (b03 (nI w) (g (152 + 4 * w + 1)) K x sv).1) ∧ b9 = [zO (ad 99) 10 (mFs ad (upd (upd iv 24 (nI w)) 23 (nI ((b03 (nI w) (g (152 + 4 * w + 1)) K x sv).2.2)))), zI (G.2.2.1 0) (ad 0) 602 g, zI (G.2.2.1 0) (ad 22) 40 ((b03 (nI w) (g (152 + 4 * w + 1)) K x sv).2.1)]) := by
  refine zMet.of (by decide +kernel) (Nat.le_of_ble_eq_true rfl) ?_
  intro p e s m args below meth c A hz hA hr hlk hnm9 Q hQ
  refine z_lv (lv' := [(0, .ref (ad 99)), (1, .int 7), (2, .int 3), (3, .int x)]) [0, 1, 2, 3] rfl ?_
  refine z_iload_n hz dX10_bodyFrom_0 1 rfl rfl ?_
  refine z_istore (lv' := [(0, .ref (ad 99)), (1, .int 7), (2, .int 3), (3, .int x), (4, .int 7)]) hz [1, 2, 3, 4, 0] dX10_bodyFrom_1 (by decide) rfl ?_
  refine z_iload hz dX10_bodyFrom_3 4 rfl ?_
  refine z_iload_n hz dX10_bodyFrom_5 2 rfl rfl ?_
  refine z_callRD (st2 := [.int (zB (ownP 7 3))]) hz zKp.mt (zk_S hz (rm := (zRm 0 0 0 0)) (As := [.int 7, .int 3]) (rest := []) 2 q2437 q2438 q95 q2439 (by decide +kernel) ⟨Nat.le_of_ble_eq_true rfl, Nat.le_of_ble_eq_true rfl⟩ ⟨Nat.le_of_ble_eq_true rfl, Nat.le_of_ble_eq_true rfl⟩ rfl rfl (Nat.le_of_ble_eq_true rfl) dX10_bodyFrom_6) (mM_hasOwn 7 3 (by decide) (by decide)) (fun _ _ _ => zP0) rfl ?_
  refine z_ifB_neF hz 22 dX10_bodyFrom_9 (by decide) (by decide) ?_
  refine z_iload hz dX10_bodyFrom_12 4 rfl ?_
  refine z_callRD (st2 := [.int 5]) hz zKp.mt (zk_S hz (rm := (zRm 0 0 0 0)) (As := [.int 7]) (rest := []) 1 q2229 q2230 q95 q2231 (by decide +kernel) ⟨Nat.le_of_ble_eq_true rfl, Nat.le_of_ble_eq_true rfl⟩ ⟨Nat.le_of_ble_eq_true rfl, Nat.le_of_ble_eq_true rfl⟩ rfl rfl (Nat.le_of_ble_eq_true rfl) dX10_bodyFrom_14) (mM_above 7 (by decide)) (fun _ _ _ => zP0) rfl ?_
  refine z_istore (lv' := [(0, .ref (ad 99)), (1, .int 7), (2, .int 3), (3, .int x), (4, .int 5)]) hz [1, 2, 3, 4, 0] dX10_bodyFrom_17 (by decide) rfl ?_
  refine z_goto hz 3 dX10_bodyFrom_19 (by decide) ?_
  refine z_iload hz dX10_bodyFrom_3 4 rfl ?_
  refine z_iload_n hz dX10_bodyFrom_5 2 rfl rfl ?_
  refine z_callRD (st2 := [.int (zB (ownP 5 3))]) hz zKp.mt (zk_S hz (rm := (zRm 0 0 0 0)) (As := [.int 5, .int 3]) (rest := []) 2 q2437 q2438 q95 q2439 (by decide +kernel) ⟨Nat.le_of_ble_eq_true rfl, Nat.le_of_ble_eq_true rfl⟩ ⟨Nat.le_of_ble_eq_true rfl, Nat.le_of_ble_eq_true rfl⟩ rfl rfl (Nat.le_of_ble_eq_true rfl) dX10_bodyFrom_6) (mM_hasOwn 5 3 (by decide) (by decide)) (fun _ _ _ => zP0) rfl ?_
  refine z_ifB_neF hz 22 dX10_bodyFrom_9 (by decide) (by decide) ?_
  refine z_iload hz dX10_bodyFrom_12 4 rfl ?_
  refine z_callRD (st2 := [.int 0]) hz zKp.mt (zk_S hz (rm := (zRm 0 0 0 0)) (As := [.int 5]) (rest := []) 1 q2229 q2230 q95 q2231 (by decide +kernel) ⟨Nat.le_of_ble_eq_true rfl, Nat.le_of_ble_eq_true rfl⟩ ⟨Nat.le_of_ble_eq_true rfl, Nat.le_of_ble_eq_true rfl⟩ rfl rfl (Nat.le_of_ble_eq_true rfl) dX10_bodyFrom_14) (mM_above 5 (by decide)) (fun _ _ _ => zP0) rfl ?_
  refine z_istore (lv' := [(0, .ref (ad 99)), (1, .int 7), (2, .int 3), (3, .int x), (4, .int 0)]) hz [1, 2, 3, 4, 0] dX10_bodyFrom_17 (by decide) rfl ?_
  refine z_goto hz 3 dX10_bodyFrom_19 (by decide) ?_
  refine z_iload hz dX10_bodyFrom_3 4 rfl ?_
  refine z_iload_n hz dX10_bodyFrom_5 2 rfl rfl ?_
  refine z_callRD (st2 := [.int (zB (ownP 0 3))]) hz zKp.mt (zk_S hz (rm := (zRm 0 0 0 0)) (As := [.int 0, .int 3]) (rest := []) 2 q2437 q2438 q95 q2439 (by decide +kernel) ⟨Nat.le_of_ble_eq_true rfl, Nat.le_of_ble_eq_true rfl⟩ ⟨Nat.le_of_ble_eq_true rfl, Nat.le_of_ble_eq_true rfl⟩ rfl rfl (Nat.le_of_ble_eq_true rfl) dX10_bodyFrom_6) (mM_hasOwn 0 3 (by decide) (by decide)) (fun _ _ _ => zP0) rfl ?_
  refine z_ifB_neT hz 22 dX10_bodyFrom_9 (by decide) (by decide) ?_
  refine z_aload_n hz dX10_bodyFrom_22 0 rfl rfl ?_
  refine z_iload hz dX10_bodyFrom_23 4 rfl ?_
  refine z_iload_n hz dX10_bodyFrom_25 2 rfl rfl ?_
  refine z_iload_n hz dX10_bodyFrom_26 3 rfl rfl ?_
  refine z_callD (bs2 := [zO (ad 99) 10 (mFs ad (upd (upd iv 24 (nI w)) 23 (nI ((b03 (nI w) (g (152 + 4 * w + 1)) K x sv).2.2)))), zI (G.2.2.1 0) (ad 0) 602 g, zI (G.2.2.1 0) (ad 22) 40 ((b03 (nI w) (g (152 + 4 * w + 1)) K x sv).2.1)]) (st2 := [.int ((b03 (nI w) (g (152 + 4 * w + 1)) K x sv).1)]) hz hA (zk_V hz (rm := (zRm 15 0 0 450)) (As := [.int 0, .int 3, .int x]) (rest := []) 3 q2440 q2442 qs76 q95 q2443 (by decide +kernel) ⟨Nat.le_of_ble_eq_true rfl, Nat.le_of_ble_eq_true rfl⟩ ⟨Nat.le_of_ble_eq_true rfl, Nat.le_of_ble_eq_true rfl⟩ (zRecv (q := (RX10, TX10, 29)) hz (zAt.mt 0 0 rfl rfl) rfl) rfl rfl (Nat.le_of_ble_eq_true rfl) dX10_bodyFrom_27) (mM_b03 ad iv g sv w K hw hK8 hK hs40 x) [0, 1, 2] rfl (by decide) rfl rfl ?_
  exact z_iret hQ hz hr hlk dX10_bodyFrom_30 ⟨rfl, rfl⟩
set_option maxHeartbeats 400000 in
theorem mM_v3_0 {G : zG} (ad : Nat → Nat) (iv g : Nat → Int32) (sv : zV) (w : Nat) (hw : w < 12) (hK : g (152 + 4 * w) = nI 0) (hs40 : sv.2 ≤ 40) (x : Int32) : zMet G yX10_voiced (ws_ yX10_voiced cX10_voiced 3 (some .int)) (zRm 19 0 0 570) [.ref (ad 99), .int 3, .int x] [zO (ad 99) 10 (mFs ad (upd (upd iv 24 (nI w)) 23 (nI sv.2))), zI (G.2.2.1 0) (ad 0) 602 g, zI (G.2.2.1 0) (ad 22) 40 sv.1] (fun v9 b9 => v9 = some (.int (v3 (nI w) (g (152 + 4 * w + 1)) 0 x sv).1) ∧ b9 = [zO (ad 99) 10 (mFs ad (upd (upd iv 24 (nI w)) 23 (nI ((v3 (nI w) (g (152 + 4 * w + 1)) 0 x sv).2.2)))), zI (G.2.2.1 0) (ad 0) 602 g, zI (G.2.2.1 0) (ad 22) 40 ((v3 (nI w) (g (152 + 4 * w + 1)) 0 x sv).2.1)]) := by
  refine zMet.of (by decide +kernel) (Nat.le_of_ble_eq_true rfl) ?_
  intro p e s m args below meth c A hz hA hr hlk hnm9 Q hQ
  refine z_lv (lv' := [(0, .ref (ad 99)), (1, .int 3), (2, .int x)]) [0, 1, 2] rfl ?_
  refine z_aload_n hz dX10_voiced_0 0 rfl rfl ?_
  refine z_aload_n hz dX10_voiced_1 0 rfl rfl ?_
  refine z_aload_n hz dX10_voiced_2 0 rfl rfl ?_
  refine z_get (C := RX10) (T := TX10) (N := 29) hz in_X10 (zAt.mt 0 0 rfl rfl) rfl 24 (by decide) q1953 (fun _ h9 => h9) rfl dX10_voiced_3 ?_
  refine z_iconst hz 0 dX10_voiced_6 ki_0 ?_
  refine z_callRD (st2 := [.int (g (152 + 4 * w)), .ref (ad 99)]) hz zKp.mt (zk_V hz (rm := (zRm 0 0 0 0)) (As := [.int (nI w), .int 0]) (rest := [.ref (ad 99)]) 2 q2225 q2227 qs57 q95 q2228 (by decide +kernel) ⟨Nat.le_of_ble_eq_true rfl, Nat.le_of_ble_eq_true rfl⟩ ⟨Nat.le_of_ble_eq_true rfl, Nat.le_of_ble_eq_true rfl⟩ (zRecv (q := (RX10, TX10, 29)) hz (zAt.mt 0 0 rfl rfl) rfl) rfl rfl (Nat.le_of_ble_eq_true rfl) dX10_voiced_7) (mM_way2 ad (upd (upd iv 24 (nI w)) 23 (nI sv.2)) g w 0 (by omega)) (fun H9 L9 h9 => (zPc (zAt.mt 0 0 rfl rfl) h9 (zPc (zAt.mt 1 0 rfl rfl) h9 zP0))) rfl ?_
  refine z_top hK ?_
  refine z_top (y := 0) (by decide) ?_
  refine z_iload_n hz dX10_voiced_10 1 rfl rfl ?_
  refine z_iload_n hz dX10_voiced_11 2 rfl rfl ?_
  refine z_callD (bs2 := [zO (ad 99) 10 (mFs ad (upd (upd iv 24 (nI w)) 23 (nI ((b03 (nI w) (g (152 + 4 * w + 1)) 0 x sv).2.2)))), zI (G.2.2.1 0) (ad 0) 602 g, zI (G.2.2.1 0) (ad 22) 40 ((b03 (nI w) (g (152 + 4 * w + 1)) 0 x sv).2.1)]) (st2 := [.int ((b03 (nI w) (g (152 + 4 * w + 1)) 0 x sv).1)]) hz hA (zk_V hz (rm := (zRm 16 0 0 480)) (As := [.int 0, .int 3, .int x]) (rest := []) 3 q2433 q2435 qs75 q95 q2436 (by decide +kernel) ⟨Nat.le_of_ble_eq_true rfl, Nat.le_of_ble_eq_true rfl⟩ ⟨Nat.le_of_ble_eq_true rfl, Nat.le_of_ble_eq_true rfl⟩ (zRecv (q := (RX10, TX10, 29)) hz (zAt.mt 0 0 rfl rfl) rfl) rfl rfl (Nat.le_of_ble_eq_true rfl) dX10_voiced_12) (mM_f03 ad iv g sv w 0 hw (by decide) hK hs40 x) [0, 1, 2] rfl (by decide) rfl rfl ?_
  exact z_iret hQ hz hr hlk dX10_voiced_15 ⟨rfl, rfl⟩
set_option maxHeartbeats 400000 in
theorem mM_v3_1 {G : zG} (ad : Nat → Nat) (iv g : Nat → Int32) (sv : zV) (w : Nat) (hw : w < 12) (hK : g (152 + 4 * w) = nI 1) (hs40 : sv.2 ≤ 40) (x : Int32) : zMet G yX10_voiced (ws_ yX10_voiced cX10_voiced 3 (some .int)) (zRm 19 0 0 570) [.ref (ad 99), .int 3, .int x] [zO (ad 99) 10 (mFs ad (upd (upd iv 24 (nI w)) 23 (nI sv.2))), zI (G.2.2.1 0) (ad 0) 602 g, zI (G.2.2.1 0) (ad 22) 40 sv.1] (fun v9 b9 => v9 = some (.int (v3 (nI w) (g (152 + 4 * w + 1)) 1 x sv).1) ∧ b9 = [zO (ad 99) 10 (mFs ad (upd (upd iv 24 (nI w)) 23 (nI ((v3 (nI w) (g (152 + 4 * w + 1)) 1 x sv).2.2)))), zI (G.2.2.1 0) (ad 0) 602 g, zI (G.2.2.1 0) (ad 22) 40 ((v3 (nI w) (g (152 + 4 * w + 1)) 1 x sv).2.1)]) := by
  refine zMet.of (by decide +kernel) (Nat.le_of_ble_eq_true rfl) ?_
  intro p e s m args below meth c A hz hA hr hlk hnm9 Q hQ
  refine z_lv (lv' := [(0, .ref (ad 99)), (1, .int 3), (2, .int x)]) [0, 1, 2] rfl ?_
  refine z_aload_n hz dX10_voiced_0 0 rfl rfl ?_
  refine z_aload_n hz dX10_voiced_1 0 rfl rfl ?_
  refine z_aload_n hz dX10_voiced_2 0 rfl rfl ?_
  refine z_get (C := RX10) (T := TX10) (N := 29) hz in_X10 (zAt.mt 0 0 rfl rfl) rfl 24 (by decide) q1953 (fun _ h9 => h9) rfl dX10_voiced_3 ?_
  refine z_iconst hz 0 dX10_voiced_6 ki_0 ?_
  refine z_callRD (st2 := [.int (g (152 + 4 * w)), .ref (ad 99)]) hz zKp.mt (zk_V hz (rm := (zRm 0 0 0 0)) (As := [.int (nI w), .int 0]) (rest := [.ref (ad 99)]) 2 q2225 q2227 qs57 q95 q2228 (by decide +kernel) ⟨Nat.le_of_ble_eq_true rfl, Nat.le_of_ble_eq_true rfl⟩ ⟨Nat.le_of_ble_eq_true rfl, Nat.le_of_ble_eq_true rfl⟩ (zRecv (q := (RX10, TX10, 29)) hz (zAt.mt 0 0 rfl rfl) rfl) rfl rfl (Nat.le_of_ble_eq_true rfl) dX10_voiced_7) (mM_way2 ad (upd (upd iv 24 (nI w)) 23 (nI sv.2)) g w 0 (by omega)) (fun H9 L9 h9 => (zPc (zAt.mt 0 0 rfl rfl) h9 (zPc (zAt.mt 1 0 rfl rfl) h9 zP0))) rfl ?_
  refine z_top hK ?_
  refine z_top (y := 1) (by decide) ?_
  refine z_iload_n hz dX10_voiced_10 1 rfl rfl ?_
  refine z_iload_n hz dX10_voiced_11 2 rfl rfl ?_
  refine z_callD (bs2 := [zO (ad 99) 10 (mFs ad (upd (upd iv 24 (nI w)) 23 (nI ((b03 (nI w) (g (152 + 4 * w + 1)) 1 x sv).2.2)))), zI (G.2.2.1 0) (ad 0) 602 g, zI (G.2.2.1 0) (ad 22) 40 ((b03 (nI w) (g (152 + 4 * w + 1)) 1 x sv).2.1)]) (st2 := [.int ((b03 (nI w) (g (152 + 4 * w + 1)) 1 x sv).1)]) hz hA (zk_V hz (rm := (zRm 16 0 0 480)) (As := [.int 1, .int 3, .int x]) (rest := []) 3 q2433 q2435 qs75 q95 q2436 (by decide +kernel) ⟨Nat.le_of_ble_eq_true rfl, Nat.le_of_ble_eq_true rfl⟩ ⟨Nat.le_of_ble_eq_true rfl, Nat.le_of_ble_eq_true rfl⟩ (zRecv (q := (RX10, TX10, 29)) hz (zAt.mt 0 0 rfl rfl) rfl) rfl rfl (Nat.le_of_ble_eq_true rfl) dX10_voiced_12) (mM_f13 ad iv g sv w 1 hw (by decide) hK hs40 x) [0, 1, 2] rfl (by decide) rfl rfl ?_
  exact z_iret hQ hz hr hlk dX10_voiced_15 ⟨rfl, rfl⟩
set_option maxHeartbeats 400000 in
theorem mM_v3_2 {G : zG} (ad : Nat → Nat) (iv g : Nat → Int32) (sv : zV) (w : Nat) (hw : w < 12) (hK : g (152 + 4 * w) = nI 2) (hs40 : sv.2 ≤ 40) (x : Int32) : zMet G yX10_voiced (ws_ yX10_voiced cX10_voiced 3 (some .int)) (zRm 19 0 0 570) [.ref (ad 99), .int 3, .int x] [zO (ad 99) 10 (mFs ad (upd (upd iv 24 (nI w)) 23 (nI sv.2))), zI (G.2.2.1 0) (ad 0) 602 g, zI (G.2.2.1 0) (ad 22) 40 sv.1] (fun v9 b9 => v9 = some (.int (v3 (nI w) (g (152 + 4 * w + 1)) 2 x sv).1) ∧ b9 = [zO (ad 99) 10 (mFs ad (upd (upd iv 24 (nI w)) 23 (nI ((v3 (nI w) (g (152 + 4 * w + 1)) 2 x sv).2.2)))), zI (G.2.2.1 0) (ad 0) 602 g, zI (G.2.2.1 0) (ad 22) 40 ((v3 (nI w) (g (152 + 4 * w + 1)) 2 x sv).2.1)]) := by
  refine zMet.of (by decide +kernel) (Nat.le_of_ble_eq_true rfl) ?_
  intro p e s m args below meth c A hz hA hr hlk hnm9 Q hQ
  refine z_lv (lv' := [(0, .ref (ad 99)), (1, .int 3), (2, .int x)]) [0, 1, 2] rfl ?_
  refine z_aload_n hz dX10_voiced_0 0 rfl rfl ?_
  refine z_aload_n hz dX10_voiced_1 0 rfl rfl ?_
  refine z_aload_n hz dX10_voiced_2 0 rfl rfl ?_
  refine z_get (C := RX10) (T := TX10) (N := 29) hz in_X10 (zAt.mt 0 0 rfl rfl) rfl 24 (by decide) q1953 (fun _ h9 => h9) rfl dX10_voiced_3 ?_
  refine z_iconst hz 0 dX10_voiced_6 ki_0 ?_
  refine z_callRD (st2 := [.int (g (152 + 4 * w)), .ref (ad 99)]) hz zKp.mt (zk_V hz (rm := (zRm 0 0 0 0)) (As := [.int (nI w), .int 0]) (rest := [.ref (ad 99)]) 2 q2225 q2227 qs57 q95 q2228 (by decide +kernel) ⟨Nat.le_of_ble_eq_true rfl, Nat.le_of_ble_eq_true rfl⟩ ⟨Nat.le_of_ble_eq_true rfl, Nat.le_of_ble_eq_true rfl⟩ (zRecv (q := (RX10, TX10, 29)) hz (zAt.mt 0 0 rfl rfl) rfl) rfl rfl (Nat.le_of_ble_eq_true rfl) dX10_voiced_7) (mM_way2 ad (upd (upd iv 24 (nI w)) 23 (nI sv.2)) g w 0 (by omega)) (fun H9 L9 h9 => (zPc (zAt.mt 0 0 rfl rfl) h9 (zPc (zAt.mt 1 0 rfl rfl) h9 zP0))) rfl ?_
  refine z_top hK ?_
  refine z_top (y := 2) (by decide) ?_
  refine z_iload_n hz dX10_voiced_10 1 rfl rfl ?_
  refine z_iload_n hz dX10_voiced_11 2 rfl rfl ?_
  refine z_callD (bs2 := [zO (ad 99) 10 (mFs ad (upd (upd iv 24 (nI w)) 23 (nI ((b03 (nI w) (g (152 + 4 * w + 1)) 2 x sv).2.2)))), zI (G.2.2.1 0) (ad 0) 602 g, zI (G.2.2.1 0) (ad 22) 40 ((b03 (nI w) (g (152 + 4 * w + 1)) 2 x sv).2.1)]) (st2 := [.int ((b03 (nI w) (g (152 + 4 * w + 1)) 2 x sv).1)]) hz hA (zk_V hz (rm := (zRm 16 0 0 480)) (As := [.int 2, .int 3, .int x]) (rest := []) 3 q2433 q2435 qs75 q95 q2436 (by decide +kernel) ⟨Nat.le_of_ble_eq_true rfl, Nat.le_of_ble_eq_true rfl⟩ ⟨Nat.le_of_ble_eq_true rfl, Nat.le_of_ble_eq_true rfl⟩ (zRecv (q := (RX10, TX10, 29)) hz (zAt.mt 0 0 rfl rfl) rfl) rfl rfl (Nat.le_of_ble_eq_true rfl) dX10_voiced_12) (mM_f23 ad iv g sv w 2 hw (by decide) hK hs40 x) [0, 1, 2] rfl (by decide) rfl rfl ?_
  exact z_iret hQ hz hr hlk dX10_voiced_15 ⟨rfl, rfl⟩
set_option maxHeartbeats 400000 in
theorem mM_v3_3 {G : zG} (ad : Nat → Nat) (iv g : Nat → Int32) (sv : zV) (w : Nat) (hw : w < 12) (hK : g (152 + 4 * w) = nI 3) (hs40 : sv.2 ≤ 40) (x : Int32) : zMet G yX10_voiced (ws_ yX10_voiced cX10_voiced 3 (some .int)) (zRm 19 0 0 570) [.ref (ad 99), .int 3, .int x] [zO (ad 99) 10 (mFs ad (upd (upd iv 24 (nI w)) 23 (nI sv.2))), zI (G.2.2.1 0) (ad 0) 602 g, zI (G.2.2.1 0) (ad 22) 40 sv.1] (fun v9 b9 => v9 = some (.int (v3 (nI w) (g (152 + 4 * w + 1)) 3 x sv).1) ∧ b9 = [zO (ad 99) 10 (mFs ad (upd (upd iv 24 (nI w)) 23 (nI ((v3 (nI w) (g (152 + 4 * w + 1)) 3 x sv).2.2)))), zI (G.2.2.1 0) (ad 0) 602 g, zI (G.2.2.1 0) (ad 22) 40 ((v3 (nI w) (g (152 + 4 * w + 1)) 3 x sv).2.1)]) := by
  refine zMet.of (by decide +kernel) (Nat.le_of_ble_eq_true rfl) ?_
  intro p e s m args below meth c A hz hA hr hlk hnm9 Q hQ
  refine z_lv (lv' := [(0, .ref (ad 99)), (1, .int 3), (2, .int x)]) [0, 1, 2] rfl ?_
  refine z_aload_n hz dX10_voiced_0 0 rfl rfl ?_
  refine z_aload_n hz dX10_voiced_1 0 rfl rfl ?_
  refine z_aload_n hz dX10_voiced_2 0 rfl rfl ?_
  refine z_get (C := RX10) (T := TX10) (N := 29) hz in_X10 (zAt.mt 0 0 rfl rfl) rfl 24 (by decide) q1953 (fun _ h9 => h9) rfl dX10_voiced_3 ?_
  refine z_iconst hz 0 dX10_voiced_6 ki_0 ?_
  refine z_callRD (st2 := [.int (g (152 + 4 * w)), .ref (ad 99)]) hz zKp.mt (zk_V hz (rm := (zRm 0 0 0 0)) (As := [.int (nI w), .int 0]) (rest := [.ref (ad 99)]) 2 q2225 q2227 qs57 q95 q2228 (by decide +kernel) ⟨Nat.le_of_ble_eq_true rfl, Nat.le_of_ble_eq_true rfl⟩ ⟨Nat.le_of_ble_eq_true rfl, Nat.le_of_ble_eq_true rfl⟩ (zRecv (q := (RX10, TX10, 29)) hz (zAt.mt 0 0 rfl rfl) rfl) rfl rfl (Nat.le_of_ble_eq_true rfl) dX10_voiced_7) (mM_way2 ad (upd (upd iv 24 (nI w)) 23 (nI sv.2)) g w 0 (by omega)) (fun H9 L9 h9 => (zPc (zAt.mt 0 0 rfl rfl) h9 (zPc (zAt.mt 1 0 rfl rfl) h9 zP0))) rfl ?_
  refine z_top hK ?_
  refine z_top (y := 3) (by decide) ?_
  refine z_iload_n hz dX10_voiced_10 1 rfl rfl ?_
  refine z_iload_n hz dX10_voiced_11 2 rfl rfl ?_
  refine z_callD (bs2 := [zO (ad 99) 10 (mFs ad (upd (upd iv 24 (nI w)) 23 (nI ((b03 (nI w) (g (152 + 4 * w + 1)) 3 x sv).2.2)))), zI (G.2.2.1 0) (ad 0) 602 g, zI (G.2.2.1 0) (ad 22) 40 ((b03 (nI w) (g (152 + 4 * w + 1)) 3 x sv).2.1)]) (st2 := [.int ((b03 (nI w) (g (152 + 4 * w + 1)) 3 x sv).1)]) hz hA (zk_V hz (rm := (zRm 16 0 0 480)) (As := [.int 3, .int 3, .int x]) (rest := []) 3 q2433 q2435 qs75 q95 q2436 (by decide +kernel) ⟨Nat.le_of_ble_eq_true rfl, Nat.le_of_ble_eq_true rfl⟩ ⟨Nat.le_of_ble_eq_true rfl, Nat.le_of_ble_eq_true rfl⟩ (zRecv (q := (RX10, TX10, 29)) hz (zAt.mt 0 0 rfl rfl) rfl) rfl rfl (Nat.le_of_ble_eq_true rfl) dX10_voiced_12) (mM_f33 ad iv g sv w 3 hw (by decide) hK hs40 x) [0, 1, 2] rfl (by decide) rfl rfl ?_
  exact z_iret hQ hz hr hlk dX10_voiced_15 ⟨rfl, rfl⟩
set_option maxHeartbeats 400000 in
theorem mM_v3_4 {G : zG} (ad : Nat → Nat) (iv g : Nat → Int32) (sv : zV) (w : Nat) (hw : w < 12) (hK : g (152 + 4 * w) = nI 4) (hs40 : sv.2 ≤ 40) (x : Int32) : zMet G yX10_voiced (ws_ yX10_voiced cX10_voiced 3 (some .int)) (zRm 19 0 0 570) [.ref (ad 99), .int 3, .int x] [zO (ad 99) 10 (mFs ad (upd (upd iv 24 (nI w)) 23 (nI sv.2))), zI (G.2.2.1 0) (ad 0) 602 g, zI (G.2.2.1 0) (ad 22) 40 sv.1] (fun v9 b9 => v9 = some (.int (v3 (nI w) (g (152 + 4 * w + 1)) 4 x sv).1) ∧ b9 = [zO (ad 99) 10 (mFs ad (upd (upd iv 24 (nI w)) 23 (nI ((v3 (nI w) (g (152 + 4 * w + 1)) 4 x sv).2.2)))), zI (G.2.2.1 0) (ad 0) 602 g, zI (G.2.2.1 0) (ad 22) 40 ((v3 (nI w) (g (152 + 4 * w + 1)) 4 x sv).2.1)]) := by
  refine zMet.of (by decide +kernel) (Nat.le_of_ble_eq_true rfl) ?_
  intro p e s m args below meth c A hz hA hr hlk hnm9 Q hQ
  refine z_lv (lv' := [(0, .ref (ad 99)), (1, .int 3), (2, .int x)]) [0, 1, 2] rfl ?_
  refine z_aload_n hz dX10_voiced_0 0 rfl rfl ?_
  refine z_aload_n hz dX10_voiced_1 0 rfl rfl ?_
  refine z_aload_n hz dX10_voiced_2 0 rfl rfl ?_
  refine z_get (C := RX10) (T := TX10) (N := 29) hz in_X10 (zAt.mt 0 0 rfl rfl) rfl 24 (by decide) q1953 (fun _ h9 => h9) rfl dX10_voiced_3 ?_
  refine z_iconst hz 0 dX10_voiced_6 ki_0 ?_
  refine z_callRD (st2 := [.int (g (152 + 4 * w)), .ref (ad 99)]) hz zKp.mt (zk_V hz (rm := (zRm 0 0 0 0)) (As := [.int (nI w), .int 0]) (rest := [.ref (ad 99)]) 2 q2225 q2227 qs57 q95 q2228 (by decide +kernel) ⟨Nat.le_of_ble_eq_true rfl, Nat.le_of_ble_eq_true rfl⟩ ⟨Nat.le_of_ble_eq_true rfl, Nat.le_of_ble_eq_true rfl⟩ (zRecv (q := (RX10, TX10, 29)) hz (zAt.mt 0 0 rfl rfl) rfl) rfl rfl (Nat.le_of_ble_eq_true rfl) dX10_voiced_7) (mM_way2 ad (upd (upd iv 24 (nI w)) 23 (nI sv.2)) g w 0 (by omega)) (fun H9 L9 h9 => (zPc (zAt.mt 0 0 rfl rfl) h9 (zPc (zAt.mt 1 0 rfl rfl) h9 zP0))) rfl ?_
  refine z_top hK ?_
  refine z_top (y := 4) (by decide) ?_
  refine z_iload_n hz dX10_voiced_10 1 rfl rfl ?_
  refine z_iload_n hz dX10_voiced_11 2 rfl rfl ?_
  refine z_callD (bs2 := [zO (ad 99) 10 (mFs ad (upd (upd iv 24 (nI w)) 23 (nI ((b43 (nI w) (g (152 + 4 * w + 1)) 4 x sv).2.2)))), zI (G.2.2.1 0) (ad 0) 602 g, zI (G.2.2.1 0) (ad 22) 40 ((b43 (nI w) (g (152 + 4 * w + 1)) 4 x sv).2.1)]) (st2 := [.int ((b43 (nI w) (g (152 + 4 * w + 1)) 4 x sv).1)]) hz hA (zk_V hz (rm := (zRm 18 0 0 540)) (As := [.int 4, .int 3, .int x]) (rest := []) 3 q2433 q2435 qs75 q95 q2436 (by decide +kernel) ⟨Nat.le_of_ble_eq_true rfl, Nat.le_of_ble_eq_true rfl⟩ ⟨Nat.le_of_ble_eq_true rfl, Nat.le_of_ble_eq_true rfl⟩ (zRecv (q := (RX10, TX10, 29)) hz (zAt.mt 0 0 rfl rfl) rfl) rfl rfl (Nat.le_of_ble_eq_true rfl) dX10_voiced_12) (mM_f43 ad iv g sv w 4 hw (by decide) hK hs40 x) [0, 1, 2] rfl (by decide) rfl rfl ?_
  exact z_iret hQ hz hr hlk dX10_voiced_15 ⟨rfl, rfl⟩
set_option maxHeartbeats 400000 in
theorem mM_v3_5 {G : zG} (ad : Nat → Nat) (iv g : Nat → Int32) (sv : zV) (w : Nat) (hw : w < 12) (hK : g (152 + 4 * w) = nI 5) (hs40 : sv.2 ≤ 40) (x : Int32) : zMet G yX10_voiced (ws_ yX10_voiced cX10_voiced 3 (some .int)) (zRm 19 0 0 570) [.ref (ad 99), .int 3, .int x] [zO (ad 99) 10 (mFs ad (upd (upd iv 24 (nI w)) 23 (nI sv.2))), zI (G.2.2.1 0) (ad 0) 602 g, zI (G.2.2.1 0) (ad 22) 40 sv.1] (fun v9 b9 => v9 = some (.int (v3 (nI w) (g (152 + 4 * w + 1)) 5 x sv).1) ∧ b9 = [zO (ad 99) 10 (mFs ad (upd (upd iv 24 (nI w)) 23 (nI ((v3 (nI w) (g (152 + 4 * w + 1)) 5 x sv).2.2)))), zI (G.2.2.1 0) (ad 0) 602 g, zI (G.2.2.1 0) (ad 22) 40 ((v3 (nI w) (g (152 + 4 * w + 1)) 5 x sv).2.1)]) := by
  refine zMet.of (by decide +kernel) (Nat.le_of_ble_eq_true rfl) ?_
  intro p e s m args below meth c A hz hA hr hlk hnm9 Q hQ
  refine z_lv (lv' := [(0, .ref (ad 99)), (1, .int 3), (2, .int x)]) [0, 1, 2] rfl ?_
  refine z_aload_n hz dX10_voiced_0 0 rfl rfl ?_
  refine z_aload_n hz dX10_voiced_1 0 rfl rfl ?_
  refine z_aload_n hz dX10_voiced_2 0 rfl rfl ?_
  refine z_get (C := RX10) (T := TX10) (N := 29) hz in_X10 (zAt.mt 0 0 rfl rfl) rfl 24 (by decide) q1953 (fun _ h9 => h9) rfl dX10_voiced_3 ?_
  refine z_iconst hz 0 dX10_voiced_6 ki_0 ?_
  refine z_callRD (st2 := [.int (g (152 + 4 * w)), .ref (ad 99)]) hz zKp.mt (zk_V hz (rm := (zRm 0 0 0 0)) (As := [.int (nI w), .int 0]) (rest := [.ref (ad 99)]) 2 q2225 q2227 qs57 q95 q2228 (by decide +kernel) ⟨Nat.le_of_ble_eq_true rfl, Nat.le_of_ble_eq_true rfl⟩ ⟨Nat.le_of_ble_eq_true rfl, Nat.le_of_ble_eq_true rfl⟩ (zRecv (q := (RX10, TX10, 29)) hz (zAt.mt 0 0 rfl rfl) rfl) rfl rfl (Nat.le_of_ble_eq_true rfl) dX10_voiced_7) (mM_way2 ad (upd (upd iv 24 (nI w)) 23 (nI sv.2)) g w 0 (by omega)) (fun H9 L9 h9 => (zPc (zAt.mt 0 0 rfl rfl) h9 (zPc (zAt.mt 1 0 rfl rfl) h9 zP0))) rfl ?_
  refine z_top hK ?_
  refine z_top (y := 5) (by decide) ?_
  refine z_iload_n hz dX10_voiced_10 1 rfl rfl ?_
  refine z_iload_n hz dX10_voiced_11 2 rfl rfl ?_
  refine z_callD (bs2 := [zO (ad 99) 10 (mFs ad (upd (upd iv 24 (nI w)) 23 (nI ((b03 (nI w) (g (152 + 4 * w + 1)) 5 x sv).2.2)))), zI (G.2.2.1 0) (ad 0) 602 g, zI (G.2.2.1 0) (ad 22) 40 ((b03 (nI w) (g (152 + 4 * w + 1)) 5 x sv).2.1)]) (st2 := [.int ((b03 (nI w) (g (152 + 4 * w + 1)) 5 x sv).1)]) hz hA (zk_V hz (rm := (zRm 16 0 0 480)) (As := [.int 5, .int 3, .int x]) (rest := []) 3 q2433 q2435 qs75 q95 q2436 (by decide +kernel) ⟨Nat.le_of_ble_eq_true rfl, Nat.le_of_ble_eq_true rfl⟩ ⟨Nat.le_of_ble_eq_true rfl, Nat.le_of_ble_eq_true rfl⟩ (zRecv (q := (RX10, TX10, 29)) hz (zAt.mt 0 0 rfl rfl) rfl) rfl rfl (Nat.le_of_ble_eq_true rfl) dX10_voiced_12) (mM_f53 ad iv g sv w 5 hw (by decide) hK hs40 x) [0, 1, 2] rfl (by decide) rfl rfl ?_
  exact z_iret hQ hz hr hlk dX10_voiced_15 ⟨rfl, rfl⟩
set_option maxHeartbeats 400000 in
theorem mM_v3_6 {G : zG} (ad : Nat → Nat) (iv g : Nat → Int32) (sv : zV) (w : Nat) (hw : w < 12) (hK : g (152 + 4 * w) = nI 6) (hs40 : sv.2 ≤ 40) (x : Int32) : zMet G yX10_voiced (ws_ yX10_voiced cX10_voiced 3 (some .int)) (zRm 19 0 0 570) [.ref (ad 99), .int 3, .int x] [zO (ad 99) 10 (mFs ad (upd (upd iv 24 (nI w)) 23 (nI sv.2))), zI (G.2.2.1 0) (ad 0) 602 g, zI (G.2.2.1 0) (ad 22) 40 sv.1] (fun v9 b9 => v9 = some (.int (v3 (nI w) (g (152 + 4 * w + 1)) 6 x sv).1) ∧ b9 = [zO (ad 99) 10 (mFs ad (upd (upd iv 24 (nI w)) 23 (nI ((v3 (nI w) (g (152 + 4 * w + 1)) 6 x sv).2.2)))), zI (G.2.2.1 0) (ad 0) 602 g, zI (G.2.2.1 0) (ad 22) 40 ((v3 (nI w) (g (152 + 4 * w + 1)) 6 x sv).2.1)]) := by
  refine zMet.of (by decide +kernel) (Nat.le_of_ble_eq_true rfl) ?_
  intro p e s m args below meth c A hz hA hr hlk hnm9 Q hQ
  refine z_lv (lv' := [(0, .ref (ad 99)), (1, .int 3), (2, .int x)]) [0, 1, 2] rfl ?_
  refine z_aload_n hz dX10_voiced_0 0 rfl rfl ?_
  refine z_aload_n hz dX10_voiced_1 0 rfl rfl ?_
  refine z_aload_n hz dX10_voiced_2 0 rfl rfl ?_
  refine z_get (C := RX10) (T := TX10) (N := 29) hz in_X10 (zAt.mt 0 0 rfl rfl) rfl 24 (by decide) q1953 (fun _ h9 => h9) rfl dX10_voiced_3 ?_
  refine z_iconst hz 0 dX10_voiced_6 ki_0 ?_
  refine z_callRD (st2 := [.int (g (152 + 4 * w)), .ref (ad 99)]) hz zKp.mt (zk_V hz (rm := (zRm 0 0 0 0)) (As := [.int (nI w), .int 0]) (rest := [.ref (ad 99)]) 2 q2225 q2227 qs57 q95 q2228 (by decide +kernel) ⟨Nat.le_of_ble_eq_true rfl, Nat.le_of_ble_eq_true rfl⟩ ⟨Nat.le_of_ble_eq_true rfl, Nat.le_of_ble_eq_true rfl⟩ (zRecv (q := (RX10, TX10, 29)) hz (zAt.mt 0 0 rfl rfl) rfl) rfl rfl (Nat.le_of_ble_eq_true rfl) dX10_voiced_7) (mM_way2 ad (upd (upd iv 24 (nI w)) 23 (nI sv.2)) g w 0 (by omega)) (fun H9 L9 h9 => (zPc (zAt.mt 0 0 rfl rfl) h9 (zPc (zAt.mt 1 0 rfl rfl) h9 zP0))) rfl ?_
  refine z_top hK ?_
  refine z_top (y := 6) (by decide) ?_
  refine z_iload_n hz dX10_voiced_10 1 rfl rfl ?_
  refine z_iload_n hz dX10_voiced_11 2 rfl rfl ?_
  refine z_callD (bs2 := [zO (ad 99) 10 (mFs ad (upd (upd iv 24 (nI w)) 23 (nI ((b63 (nI w) (g (152 + 4 * w + 1)) 6 x sv).2.2)))), zI (G.2.2.1 0) (ad 0) 602 g, zI (G.2.2.1 0) (ad 22) 40 ((b63 (nI w) (g (152 + 4 * w + 1)) 6 x sv).2.1)]) (st2 := [.int ((b63 (nI w) (g (152 + 4 * w + 1)) 6 x sv).1)]) hz hA (zk_V hz (rm := (zRm 18 0 0 540)) (As := [.int 6, .int 3, .int x]) (rest := []) 3 q2433 q2435 qs75 q95 q2436 (by decide +kernel) ⟨Nat.le_of_ble_eq_true rfl, Nat.le_of_ble_eq_true rfl⟩ ⟨Nat.le_of_ble_eq_true rfl, Nat.le_of_ble_eq_true rfl⟩ (zRecv (q := (RX10, TX10, 29)) hz (zAt.mt 0 0 rfl rfl) rfl) rfl rfl (Nat.le_of_ble_eq_true rfl) dX10_voiced_12) (mM_f63 ad iv g sv w 6 hw (by decide) hK hs40 x) [0, 1, 2] rfl (by decide) rfl rfl ?_
  exact z_iret hQ hz hr hlk dX10_voiced_15 ⟨rfl, rfl⟩
set_option maxHeartbeats 400000 in
theorem mM_v3_7 {G : zG} (ad : Nat → Nat) (iv g : Nat → Int32) (sv : zV) (w : Nat) (hw : w < 12) (hK : g (152 + 4 * w) = nI 7) (hs40 : sv.2 ≤ 40) (x : Int32) : zMet G yX10_voiced (ws_ yX10_voiced cX10_voiced 3 (some .int)) (zRm 19 0 0 570) [.ref (ad 99), .int 3, .int x] [zO (ad 99) 10 (mFs ad (upd (upd iv 24 (nI w)) 23 (nI sv.2))), zI (G.2.2.1 0) (ad 0) 602 g, zI (G.2.2.1 0) (ad 22) 40 sv.1] (fun v9 b9 => v9 = some (.int (v3 (nI w) (g (152 + 4 * w + 1)) 7 x sv).1) ∧ b9 = [zO (ad 99) 10 (mFs ad (upd (upd iv 24 (nI w)) 23 (nI ((v3 (nI w) (g (152 + 4 * w + 1)) 7 x sv).2.2)))), zI (G.2.2.1 0) (ad 0) 602 g, zI (G.2.2.1 0) (ad 22) 40 ((v3 (nI w) (g (152 + 4 * w + 1)) 7 x sv).2.1)]) := by
  refine zMet.of (by decide +kernel) (Nat.le_of_ble_eq_true rfl) ?_
  intro p e s m args below meth c A hz hA hr hlk hnm9 Q hQ
  refine z_lv (lv' := [(0, .ref (ad 99)), (1, .int 3), (2, .int x)]) [0, 1, 2] rfl ?_
  refine z_aload_n hz dX10_voiced_0 0 rfl rfl ?_
  refine z_aload_n hz dX10_voiced_1 0 rfl rfl ?_
  refine z_aload_n hz dX10_voiced_2 0 rfl rfl ?_
  refine z_get (C := RX10) (T := TX10) (N := 29) hz in_X10 (zAt.mt 0 0 rfl rfl) rfl 24 (by decide) q1953 (fun _ h9 => h9) rfl dX10_voiced_3 ?_
  refine z_iconst hz 0 dX10_voiced_6 ki_0 ?_
  refine z_callRD (st2 := [.int (g (152 + 4 * w)), .ref (ad 99)]) hz zKp.mt (zk_V hz (rm := (zRm 0 0 0 0)) (As := [.int (nI w), .int 0]) (rest := [.ref (ad 99)]) 2 q2225 q2227 qs57 q95 q2228 (by decide +kernel) ⟨Nat.le_of_ble_eq_true rfl, Nat.le_of_ble_eq_true rfl⟩ ⟨Nat.le_of_ble_eq_true rfl, Nat.le_of_ble_eq_true rfl⟩ (zRecv (q := (RX10, TX10, 29)) hz (zAt.mt 0 0 rfl rfl) rfl) rfl rfl (Nat.le_of_ble_eq_true rfl) dX10_voiced_7) (mM_way2 ad (upd (upd iv 24 (nI w)) 23 (nI sv.2)) g w 0 (by omega)) (fun H9 L9 h9 => (zPc (zAt.mt 0 0 rfl rfl) h9 (zPc (zAt.mt 1 0 rfl rfl) h9 zP0))) rfl ?_
  refine z_top hK ?_
  refine z_top (y := 7) (by decide) ?_
  refine z_iload_n hz dX10_voiced_10 1 rfl rfl ?_
  refine z_iload_n hz dX10_voiced_11 2 rfl rfl ?_
  refine z_callD (bs2 := [zO (ad 99) 10 (mFs ad (upd (upd iv 24 (nI w)) 23 (nI ((b03 (nI w) (g (152 + 4 * w + 1)) 7 x sv).2.2)))), zI (G.2.2.1 0) (ad 0) 602 g, zI (G.2.2.1 0) (ad 22) 40 ((b03 (nI w) (g (152 + 4 * w + 1)) 7 x sv).2.1)]) (st2 := [.int ((b03 (nI w) (g (152 + 4 * w + 1)) 7 x sv).1)]) hz hA (zk_V hz (rm := (zRm 16 0 0 480)) (As := [.int 7, .int 3, .int x]) (rest := []) 3 q2433 q2435 qs75 q95 q2436 (by decide +kernel) ⟨Nat.le_of_ble_eq_true rfl, Nat.le_of_ble_eq_true rfl⟩ ⟨Nat.le_of_ble_eq_true rfl, Nat.le_of_ble_eq_true rfl⟩ (zRecv (q := (RX10, TX10, 29)) hz (zAt.mt 0 0 rfl rfl) rfl) rfl rfl (Nat.le_of_ble_eq_true rfl) dX10_voiced_12) (mM_f73 ad iv g sv w 7 hw (by decide) hK hs40 x) [0, 1, 2] rfl (by decide) rfl rfl ?_
  exact z_iret hQ hz hr hlk dX10_voiced_15 ⟨rfl, rfl⟩
theorem mM_v3 {G : zG} (ad : Nat → Nat) (iv g : Nat → Int32) (sv : zV) (w K : Nat) (hw : w < 12) (hK8 : K < 8) (hK : g (152 + 4 * w) = nI K) (hs40 : sv.2 ≤ 40) (x : Int32) : zMet G yX10_voiced (ws_ yX10_voiced cX10_voiced 3 (some .int)) (zRm 19 0 0 570) [.ref (ad 99), .int 3, .int x] [zO (ad 99) 10 (mFs ad (upd (upd iv 24 (nI w)) 23 (nI sv.2))), zI (G.2.2.1 0) (ad 0) 602 g, zI (G.2.2.1 0) (ad 22) 40 sv.1] (fun v9 b9 => v9 = some (.int (v3 (nI w) (g (152 + 4 * w + 1)) K x sv).1) ∧ b9 = [zO (ad 99) 10 (mFs ad (upd (upd iv 24 (nI w)) 23 (nI ((v3 (nI w) (g (152 + 4 * w + 1)) K x sv).2.2)))), zI (G.2.2.1 0) (ad 0) 602 g, zI (G.2.2.1 0) (ad 22) 40 ((v3 (nI w) (g (152 + 4 * w + 1)) K x sv).2.1)]) := by
  have h8 : K = 0 ∨ K = 1 ∨ K = 2 ∨ K = 3 ∨ K = 4 ∨ K = 5 ∨ K = 6 ∨ K = 7 := by omega
  rcases h8 with e8 | e8 | e8 | e8 | e8 | e8 | e8 | e8 <;> subst e8
  · exact mM_v3_0 ad iv g sv w hw hK hs40 x
  · exact mM_v3_1 ad iv g sv w hw hK hs40 x
  · exact mM_v3_2 ad iv g sv w hw hK hs40 x
  · exact mM_v3_3 ad iv g sv w hw hK hs40 x
  · exact mM_v3_4 ad iv g sv w hw hK hs40 x
  · exact mM_v3_5 ad iv g sv w hw hK hs40 x
  · exact mM_v3_6 ad iv g sv w hw hK hs40 x
  · exact mM_v3_7 ad iv g sv w hw hK hs40 x
set_option maxHeartbeats 2000000 in
theorem mM_voice {G : zG} (ad : Nat → Nat) (iv g er : Nat → Int32) (tr : Nat → Int32) (tc : Nat) (way actn x : Int32) (nw : Nat) (hnw : g 3 = nI nw) (h12 : nw ≤ 12) (hwo : wayOk g nw) (htc : iv 23 = nI tc) : zMet G yX10_voice (ws_ yX10_voice cX10_voice 4 (some .int)) (zRm 20 0 0 600) [.ref (ad 99), .int way, .int actn, .int x] [zO (ad 99) 10 (mFs ad iv), zI (G.2.2.1 0) (ad 0) 602 g, zI (G.2.2.1 0) (ad 4) 6 er, zI (G.2.2.1 0) (ad 22) 40 tr] (fun v9 b9 => v9 = some (.int (rOf ((sVoice g tr tc way actn x).1, (sVoice g tr tc way actn x).2.1, fun _ => 0))) ∧ ∃ iv9 : Nat → Int32, b9 = [zO (ad 99) 10 (mFs ad iv9), zI (G.2.2.1 0) (ad 0) 602 g, zI (G.2.2.1 0) (ad 4) 6 (eOf er ((sVoice g tr tc way actn x).1, (sVoice g tr tc way actn x).2.1, fun _ => 0)), zI (G.2.2.1 0) (ad 22) 40 ((sVoice g tr tc way actn x).2.2.1)] ∧ iv9 3 = iv 3 ∧ iv9 23 = nI (sVoice g tr tc way actn x).2.2.2) := by
  refine zMet.of (by decide +kernel) (Nat.le_of_ble_eq_true rfl) ?_
  intro p e s m args below meth c A hz hA hr hlk hnm9 Q hQ
  refine z_lv (lv' := [(0, .ref (ad 99)), (1, .int way), (2, .int actn), (3, .int x)]) [0, 1, 2, 3] rfl ?_
  refine z_aload_n hz dX10_voice_0 0 rfl rfl ?_
  refine z_iload_n hz dX10_voice_1 1 rfl rfl ?_
  refine z_iconst hz 3 dX10_voice_2 ki_3 ?_
  refine z_callRD (st2 := [.int (zB (inR way 0 (g 3 - 1)))]) hz zKp.mt (zk_V hz (rm := (zRm 1 0 0 30)) (As := [.int way, .int 3]) (rest := []) 2 q2053 q2055 qs37 q95 q2056 (by decide +kernel) ⟨Nat.le_of_ble_eq_true rfl, Nat.le_of_ble_eq_true rfl⟩ ⟨Nat.le_of_ble_eq_true rfl, Nat.le_of_ble_eq_true rfl⟩ (zRecv (q := (RX10, TX10, 29)) hz (zAt.mt 0 0 rfl rfl) rfl) rfl rfl (Nat.le_of_ble_eq_true rfl) dX10_voice_3) (mM_is ad iv g way 3 (by decide)) (fun H9 L9 h9 => (zPc (zAt.mt 0 0 rfl rfl) h9 (zPc (zAt.mt 1 0 rfl rfl) h9 zP0))) rfl ?_
  refine z_ifB_eq hz 18 dX10_voice_6 (by decide) (fun c1 => ?_) (fun c1 => ?_)
  · refine z_aload_n hz dX10_voice_18 0 rfl rfl ?_
    refine z_ldc hz q2031 dX10_voice_19 ?_
    refine z_callD (bs2 := [zO (ad 99) 10 (mFs ad iv), zI (G.2.2.1 0) (ad 0) 602 g, zI (G.2.2.1 0) (ad 4) 6 (upd er 1 (er 1 + 1)), zI (G.2.2.1 0) (ad 22) 40 tr]) (st2 := [.int (-1000001)]) hz hA (zk_V hz (rm := (zRm 0 0 0 0)) (As := [.int (-1000001)]) (rest := []) 1 q2032 q2034 qs35 q95 q2035 (by decide +kernel) ⟨Nat.le_of_ble_eq_true rfl, Nat.le_of_ble_eq_true rfl⟩ ⟨Nat.le_of_ble_eq_true rfl, Nat.le_of_ble_eq_true rfl⟩ (zRecv (q := (RX10, TX10, 29)) hz (zAt.mt 0 0 rfl rfl) rfl) rfl rfl (Nat.le_of_ble_eq_true rfl) dX10_voice_21) (mM_finding ad iv er (-1000001) 1 (by decide) (by decide)) [0, 2] rfl (by decide) rfl rfl ?_
    exact z_iret hQ hz hr hlk dX10_voice_24 (by
      have e9 : sVoice g tr tc way actn x = (1, 0, (tr, tc)) := by unfold sVoice; rw [if_neg (fun h9 => c1 h9.1)]
      rw [e9]; exact ⟨congrArg (fun z => some (Value.int z)) (rE1 (g := fun _ => 0)), _, rfl, rfl, htc⟩)
  · obtain ⟨j, j_lt, rfl⟩ := is_nat hnw (by omega) c1
    have t_j : tN (nI j) = j := nI_clamp (by omega)
    refine z_iload_n hz dX10_voice_9 2 rfl rfl ?_
    refine z_iconst hz 0 dX10_voice_10 ki_0 ?_
    refine z_iconst hz 3 dX10_voice_11 ki_3 ?_
    refine z_callRD (st2 := [.int (zB (inR actn 0 3))]) hz zKp.mt (zk_S hz (rm := (zRm 0 0 0 0)) (As := [.int actn, .int 0, .int 3]) (rest := []) 3 q2023 q2024 q95 q2025 (by decide +kernel) ⟨Nat.le_of_ble_eq_true rfl, Nat.le_of_ble_eq_true rfl⟩ ⟨Nat.le_of_ble_eq_true rfl, Nat.le_of_ble_eq_true rfl⟩ rfl rfl (Nat.le_of_ble_eq_true rfl) dX10_voice_12) (mM_within actn 0 3) (fun _ _ _ => zP0) rfl ?_
    refine z_ifB_ne hz 25 dX10_voice_15 (by decide) (fun c2 => ?_) (fun c2 => ?_)
    · obtain ⟨q, q_lo, q_hi, rfl⟩ := inR_nat 0 3 kn_0 kn_3 (by decide) (by decide) c2
      have t_q : tN (nI q) = q := nI_clamp (by omega)
      refine z_aload_n hz dX10_voice_25 0 rfl rfl ?_
      refine z_iconst hz 0 dX10_voice_26 ki_0 ?_
      refine z_put (C := RX10) (T := TX10) (N := 29) hz in_X10 tyX10 tyX10_ok nmX10 0 0 rfl rfl rfl 23 (by decide) q1952 (fun _ h9 => h9) rfl rfl rfl (Nat.le_of_ble_eq_true rfl) dX10_voice_27 ?_
      refine z_bs (bs2 := [zO (ad 99) 10 (mFs ad (upd iv 23 0)), zI (G.2.2.1 0) (ad 0) 602 g, zI (G.2.2.1 0) (ad 4) 6 er, zI (G.2.2.1 0) (ad 22) 40 tr]) rfl ?_
      refine z_aload_n hz dX10_voice_30 0 rfl rfl ?_
      refine z_iload_n hz dX10_voice_31 1 rfl rfl ?_
      refine z_put (C := RX10) (T := TX10) (N := 29) hz in_X10 tyX10 tyX10_ok nmX10 0 0 rfl rfl rfl 24 (by decide) q1953 (fun _ h9 => h9) rfl rfl rfl (Nat.le_of_ble_eq_true rfl) dX10_voice_32 ?_
      refine z_bs (bs2 := [zO (ad 99) 10 (mFs ad (upd (upd iv 23 0) 24 (nI j))), zI (G.2.2.1 0) (ad 0) 602 g, zI (G.2.2.1 0) (ad 4) 6 er, zI (G.2.2.1 0) (ad 22) 40 tr]) rfl ?_
      refine z_aload_n hz dX10_voice_35 0 rfl rfl ?_
      refine z_iload_n hz dX10_voice_36 2 rfl rfl ?_
      refine z_iload_n hz dX10_voice_37 3 rfl rfl ?_
      obtain ⟨⟨K, hK8, hK⟩, -, -, -⟩ := hwo j (by omega)
      have tK : tN (nI K) = K := nI_clamp (by omega)
      have ha4 : q = 0 ∨ q = 1 ∨ q = 2 ∨ q = 3 := by omega
      rcases ha4 with e8 | e8 | e8 | e8
      · subst e8
        refine z_bs (bs2 := [zO (ad 99) 10 (mFs ad (upd (upd iv 24 (nI j)) 23 (nI ((tr, 0).2)))), zI (G.2.2.1 0) (ad 0) 602 g, zI (G.2.2.1 0) (ad 4) 6 er, zI (G.2.2.1 0) (ad 22) 40 ((tr, 0).1)]) rfl ?_
        refine z_callD (bs2 := [zO (ad 99) 10 (mFs ad (upd (upd iv 24 (nI j)) 23 (nI ((v0 (nI j) K x (tr, 0)).2.2)))), zI (G.2.2.1 0) (ad 0) 602 g, zI (G.2.2.1 0) (ad 4) 6 er, zI (G.2.2.1 0) (ad 22) 40 ((v0 (nI j) K x (tr, 0)).2.1)]) (st2 := [.int ((v0 (nI j) K x (tr, 0)).1)]) hz hA (zk_V hz (rm := (zRm 6 0 0 180)) (As := [.int 0, .int x]) (rest := []) 2 q2429 q2431 qs74 q95 q2432 (by decide +kernel) ⟨Nat.le_of_ble_eq_true rfl, Nat.le_of_ble_eq_true rfl⟩ ⟨Nat.le_of_ble_eq_true rfl, Nat.le_of_ble_eq_true rfl⟩ (zRecv (q := (RX10, TX10, 29)) hz (zAt.mt 0 0 rfl rfl) rfl) rfl rfl (Nat.le_of_ble_eq_true rfl) dX10_voice_38) (mM_v0 ad iv g (tr, 0) j K (by omega) hK8 hK (Nat.zero_le 40) x) [0, 1, 3] rfl (by decide) rfl rfl ?_
        exact z_iret hQ hz hr hlk dX10_voice_41 (by
          have e9 : sVoice g tr tc (nI j) (nI 0) x = (0, (v0 (nI j) K x (tr, 0)).1, (v0 (nI j) K x (tr, 0)).2) := by unfold sVoice; rw [if_pos ⟨c1, c2⟩]; simp only [t_j, hK, tK, t_q, vF]; rfl
          rw [e9]; exact ⟨congrArg (fun z => some (Value.int z)) (rOf_0 (g := fun _ => 0)).symm, _, rfl, rfl, rfl⟩)
      · subst e8
        refine z_bs (bs2 := [zO (ad 99) 10 (mFs ad (upd (upd iv 24 (nI j)) 23 (nI ((tr, 0).2)))), zI (G.2.2.1 0) (ad 0) 602 g, zI (G.2.2.1 0) (ad 4) 6 er, zI (G.2.2.1 0) (ad 22) 40 ((tr, 0).1)]) rfl ?_
        refine z_callD (bs2 := [zO (ad 99) 10 (mFs ad (upd (upd iv 24 (nI j)) 23 (nI ((v1 (nI j) (g (152 + 4 * j + 1)) K x (tr, 0)).2.2)))), zI (G.2.2.1 0) (ad 0) 602 g, zI (G.2.2.1 0) (ad 4) 6 er, zI (G.2.2.1 0) (ad 22) 40 ((v1 (nI j) (g (152 + 4 * j + 1)) K x (tr, 0)).2.1)]) (st2 := [.int ((v1 (nI j) (g (152 + 4 * j + 1)) K x (tr, 0)).1)]) hz hA (zk_V hz (rm := (zRm 14 0 0 420)) (As := [.int 1, .int x]) (rest := []) 2 q2429 q2431 qs74 q95 q2432 (by decide +kernel) ⟨Nat.le_of_ble_eq_true rfl, Nat.le_of_ble_eq_true rfl⟩ ⟨Nat.le_of_ble_eq_true rfl, Nat.le_of_ble_eq_true rfl⟩ (zRecv (q := (RX10, TX10, 29)) hz (zAt.mt 0 0 rfl rfl) rfl) rfl rfl (Nat.le_of_ble_eq_true rfl) dX10_voice_38) (mM_v1 ad iv g (tr, 0) j K (by omega) hK8 hK (Nat.zero_le 40) x) [0, 1, 3] rfl (by decide) rfl rfl ?_
        exact z_iret hQ hz hr hlk dX10_voice_41 (by
          have e9 : sVoice g tr tc (nI j) (nI 1) x = (0, (v1 (nI j) (g (152 + 4 * j + 1)) K x (tr, 0)).1, (v1 (nI j) (g (152 + 4 * j + 1)) K x (tr, 0)).2) := by unfold sVoice; rw [if_pos ⟨c1, c2⟩]; simp only [t_j, hK, tK, t_q, vF]; rfl
          rw [e9]; exact ⟨congrArg (fun z => some (Value.int z)) (rOf_0 (g := fun _ => 0)).symm, _, rfl, rfl, rfl⟩)
      · subst e8
        refine z_bs (bs2 := [zO (ad 99) 10 (mFs ad (upd (upd iv 24 (nI j)) 23 (nI ((tr, 0).2)))), zI (G.2.2.1 0) (ad 0) 602 g, zI (G.2.2.1 0) (ad 4) 6 er, zI (G.2.2.1 0) (ad 22) 40 ((tr, 0).1)]) rfl ?_
        refine z_callD (bs2 := [zO (ad 99) 10 (mFs ad (upd (upd iv 24 (nI j)) 23 (nI ((v2 (nI j) (g (152 + 4 * j + 1)) K x (tr, 0)).2.2)))), zI (G.2.2.1 0) (ad 0) 602 g, zI (G.2.2.1 0) (ad 4) 6 er, zI (G.2.2.1 0) (ad 22) 40 ((v2 (nI j) (g (152 + 4 * j + 1)) K x (tr, 0)).2.1)]) (st2 := [.int ((v2 (nI j) (g (152 + 4 * j + 1)) K x (tr, 0)).1)]) hz hA (zk_V hz (rm := (zRm 9 0 0 270)) (As := [.int 2, .int x]) (rest := []) 2 q2429 q2431 qs74 q95 q2432 (by decide +kernel) ⟨Nat.le_of_ble_eq_true rfl, Nat.le_of_ble_eq_true rfl⟩ ⟨Nat.le_of_ble_eq_true rfl, Nat.le_of_ble_eq_true rfl⟩ (zRecv (q := (RX10, TX10, 29)) hz (zAt.mt 0 0 rfl rfl) rfl) rfl rfl (Nat.le_of_ble_eq_true rfl) dX10_voice_38) (mM_v2 ad iv g (tr, 0) j K (by omega) hK8 hK (Nat.zero_le 40) x) [0, 1, 3] rfl (by decide) rfl rfl ?_
        exact z_iret hQ hz hr hlk dX10_voice_41 (by
          have e9 : sVoice g tr tc (nI j) (nI 2) x = (0, (v2 (nI j) (g (152 + 4 * j + 1)) K x (tr, 0)).1, (v2 (nI j) (g (152 + 4 * j + 1)) K x (tr, 0)).2) := by unfold sVoice; rw [if_pos ⟨c1, c2⟩]; simp only [t_j, hK, tK, t_q, vF]; rfl
          rw [e9]; exact ⟨congrArg (fun z => some (Value.int z)) (rOf_0 (g := fun _ => 0)).symm, _, rfl, rfl, rfl⟩)
      · subst e8
        refine z_bs (bs2 := [zO (ad 99) 10 (mFs ad (upd (upd iv 24 (nI j)) 23 (nI ((tr, 0).2)))), zI (G.2.2.1 0) (ad 0) 602 g, zI (G.2.2.1 0) (ad 4) 6 er, zI (G.2.2.1 0) (ad 22) 40 ((tr, 0).1)]) rfl ?_
        refine z_callD (bs2 := [zO (ad 99) 10 (mFs ad (upd (upd iv 24 (nI j)) 23 (nI ((v3 (nI j) (g (152 + 4 * j + 1)) K x (tr, 0)).2.2)))), zI (G.2.2.1 0) (ad 0) 602 g, zI (G.2.2.1 0) (ad 4) 6 er, zI (G.2.2.1 0) (ad 22) 40 ((v3 (nI j) (g (152 + 4 * j + 1)) K x (tr, 0)).2.1)]) (st2 := [.int ((v3 (nI j) (g (152 + 4 * j + 1)) K x (tr, 0)).1)]) hz hA (zk_V hz (rm := (zRm 19 0 0 570)) (As := [.int 3, .int x]) (rest := []) 2 q2429 q2431 qs74 q95 q2432 (by decide +kernel) ⟨Nat.le_of_ble_eq_true rfl, Nat.le_of_ble_eq_true rfl⟩ ⟨Nat.le_of_ble_eq_true rfl, Nat.le_of_ble_eq_true rfl⟩ (zRecv (q := (RX10, TX10, 29)) hz (zAt.mt 0 0 rfl rfl) rfl) rfl rfl (Nat.le_of_ble_eq_true rfl) dX10_voice_38) (mM_v3 ad iv g (tr, 0) j K (by omega) hK8 hK (Nat.zero_le 40) x) [0, 1, 3] rfl (by decide) rfl rfl ?_
        exact z_iret hQ hz hr hlk dX10_voice_41 (by
          have e9 : sVoice g tr tc (nI j) (nI 3) x = (0, (v3 (nI j) (g (152 + 4 * j + 1)) K x (tr, 0)).1, (v3 (nI j) (g (152 + 4 * j + 1)) K x (tr, 0)).2) := by unfold sVoice; rw [if_pos ⟨c1, c2⟩]; simp only [t_j, hK, tK, t_q, vF]; rfl
          rw [e9]; exact ⟨congrArg (fun z => some (Value.int z)) (rOf_0 (g := fun _ => 0)).symm, _, rfl, rfl, rfl⟩)
    · refine z_aload_n hz dX10_voice_18 0 rfl rfl ?_
      refine z_ldc hz q2031 dX10_voice_19 ?_
      refine z_callD (bs2 := [zO (ad 99) 10 (mFs ad iv), zI (G.2.2.1 0) (ad 0) 602 g, zI (G.2.2.1 0) (ad 4) 6 (upd er 1 (er 1 + 1)), zI (G.2.2.1 0) (ad 22) 40 tr]) (st2 := [.int (-1000001)]) hz hA (zk_V hz (rm := (zRm 0 0 0 0)) (As := [.int (-1000001)]) (rest := []) 1 q2032 q2034 qs35 q95 q2035 (by decide +kernel) ⟨Nat.le_of_ble_eq_true rfl, Nat.le_of_ble_eq_true rfl⟩ ⟨Nat.le_of_ble_eq_true rfl, Nat.le_of_ble_eq_true rfl⟩ (zRecv (q := (RX10, TX10, 29)) hz (zAt.mt 0 0 rfl rfl) rfl) rfl rfl (Nat.le_of_ble_eq_true rfl) dX10_voice_21) (mM_finding ad iv er (-1000001) 1 (by decide) (by decide)) [0, 2] rfl (by decide) rfl rfl ?_
      exact z_iret hQ hz hr hlk dX10_voice_24 (by
        have e9 : sVoice g tr tc (nI j) actn x = (1, 0, (tr, tc)) := by unfold sVoice; rw [if_neg (fun h9 => c2 h9.2)]
        rw [e9]; exact ⟨congrArg (fun z => some (Value.int z)) (rE1 (g := fun _ => 0)), _, rfl, rfl, htc⟩)
