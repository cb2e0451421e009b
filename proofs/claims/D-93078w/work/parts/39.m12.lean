set_option maxRecDepth 100000
set_option maxHeartbeats 400000 in
theorem mJ_coder {G : zG} (i0 : Nat) (hi : i0 < 11) : zRd G yJ12_coder (ws_ yJ12_coder cJ12_coder 1 (Option.some Jvm.ClassFile.FieldType.byte)) (zRm 0 0 0 0) [.ref (G.2.2.2 (1 + i0))] [] (fun v9 => v9 = some (.int 0)) := by
  refine zRd.of (by decide +kernel) (Nat.le_of_ble_eq_true rfl) ?_
  intro p e s m args below meth c hz hP hr hlk Q hQ
  refine z_lv (lv' := [(0, .ref (G.2.2.2 (1 + i0)))]) [0] rfl ?_
  refine z_scompact hz zSp.rd q896 dJ12_coder_0 ?_
  refine z_if_eqF hz 13 dJ12_coder_3 (by decide) (by decide) ?_
  refine z_aload_n hz dJ12_coder_6 0 rfl rfl ?_
  refine z_scoder hz zSp.rd hi q2579 dJ12_coder_7 ?_
  refine z_goto hz 14 dJ12_coder_10 (by decide) ?_
  exact zr_zret hQ hz hr hlk (by decide) dJ12_coder_14 rfl
set_option maxHeartbeats 400000 in
theorem mJ_isLatin1 {G : zG} (i0 : Nat) (hi : i0 < 11) : zRd G yJ12_isLatin1 (ws_ yJ12_isLatin1 cJ12_isLatin1 1 (some .boolean)) (zRm 0 0 0 0) [.ref (G.2.2.2 (1 + i0))] [] (fun v9 => v9 = some (.int 1)) := by
  refine zRd.of (by decide +kernel) (Nat.le_of_ble_eq_true rfl) ?_
  intro p e s m args below meth c hz hP hr hlk Q hQ
  refine z_lv (lv' := [(0, .ref (G.2.2.2 (1 + i0)))]) [0] rfl ?_
  refine z_scompact hz zSp.rd q896 dJ12_isLatin1_0 ?_
  refine z_if_eqF hz 17 dJ12_isLatin1_3 (by decide) (by decide) ?_
  refine z_aload_n hz dJ12_isLatin1_6 0 rfl rfl ?_
  refine z_scoder hz zSp.rd hi q2579 dJ12_isLatin1_7 ?_
  refine z_if_neF hz 17 dJ12_isLatin1_10 (by decide) (by decide) ?_
  refine z_iconst hz 1 dJ12_isLatin1_13 ki_1 ?_
  refine z_goto hz 18 dJ12_isLatin1_14 (by decide) ?_
  exact zr_zret hQ hz hr hlk (by decide) dJ12_isLatin1_18 rfl
set_option maxHeartbeats 400000 in
theorem mJ_length {G : zG} (i0 : Nat) (hi : i0 < 11) : zRd G yJ12_length (ws_ yJ12_length cJ12_length 1 (some .int)) (zRm 1 0 0 30) [.ref (G.2.2.2 (1 + i0))] [] (fun v9 => v9 = some (.int (nI (zLen.getD i0 0)))) := by
  refine zRd.of (by decide +kernel) (Nat.le_of_ble_eq_true rfl) ?_
  intro p e s m args below meth c hz hP hr hlk Q hQ
  refine z_lv (lv' := [(0, .ref (G.2.2.2 (1 + i0)))]) [0] rfl ?_
  refine z_aload_n hz dJ12_length_0 0 rfl rfl ?_
  refine z_svalue hz zSp.rd hi q2580 dJ12_length_1 ?_
  refine z_slen hz zSp.rd hi dJ12_length_4 ?_
  refine z_aload_n hz dJ12_length_5 0 rfl rfl ?_
  refine z_callRD (st2 := [.int 0, .int (nI (zLen.getD i0 0))]) hz zKp.rd (zk_V hz (rm := (zRm 0 0 0 0)) (As := []) (rest := [.int (nI (zLen.getD i0 0))]) 0 q902 q903 q904 q107 q905 (by decide +kernel) ⟨Nat.le_of_ble_eq_true rfl, Nat.le_of_ble_eq_true rfl⟩ ⟨Nat.le_of_ble_eq_true rfl, Nat.le_of_ble_eq_true rfl⟩ (z_srecv hz zSp.rd hi) rfl rfl (Nat.le_of_ble_eq_true rfl) dJ12_length_6) (mJ_coder i0 hi) (fun _ _ _ => zP0) rfl ?_
  refine z_ishr hz dJ12_length_9 ?_
  refine z_top (shr0 _) ?_
  exact zr_iret hQ hz hr hlk dJ12_length_10 rfl
set_option maxHeartbeats 400000 in
theorem mJ_check10_n {G : zG} (k n0 : Nat) (hk : k < n0) (hn : n0 < 2 ^ 31) : zRd G yJ10_checkIndex (ws_ yJ10_checkIndex cJ10_checkIndex 3 (some .int)) (zRm 0 0 0 0) [.int (nI k), .int (nI n0), .null] [] (fun v9 => v9 = some (.int (nI k))) := by
  refine zRd.of (by decide +kernel) (Nat.le_of_ble_eq_true rfl) ?_
  intro p e s m args below meth c hz hP hr hlk Q hQ
  refine z_lv (lv' := [(0, .int (nI k)), (1, .int (nI n0)), (2, .null)]) [0, 1, 2] rfl ?_
  refine z_iload_n hz dJ10_checkIndex_0 0 rfl rfl ?_
  refine z_if_ltF hz 9 dJ10_checkIndex_1 (by decide) (nI_pos (by omega)) ?_
  refine z_iload_n hz dJ10_checkIndex_4 0 rfl rfl ?_
  refine z_iload_n hz dJ10_checkIndex_5 1 rfl rfl ?_
  refine z_icmpN_ltT hz rfl rfl (by omega) (by omega) 16 dJ10_checkIndex_6 (by decide) hk ?_
  refine z_iload_n hz dJ10_checkIndex_16 0 rfl rfl ?_
  exact zr_iret hQ hz hr hlk dJ10_checkIndex_17 rfl
set_option maxHeartbeats 400000 in
theorem mJ_check10_s {G : zG} (k n0 : Nat) (t9 : Nat) (hk : k < n0) (hn : n0 < 2 ^ 31) : zRd G yJ10_checkIndex (ws_ yJ10_checkIndex cJ10_checkIndex 3 (some .int)) (zRm 0 0 0 0) [.int (nI k), .int (nI n0), .ref t9] [] (fun v9 => v9 = some (.int (nI k))) := by
  refine zRd.of (by decide +kernel) (Nat.le_of_ble_eq_true rfl) ?_
  intro p e s m args below meth c hz hP hr hlk Q hQ
  refine z_lv (lv' := [(0, .int (nI k)), (1, .int (nI n0)), (2, .ref t9)]) [0, 1, 2] rfl ?_
  refine z_iload_n hz dJ10_checkIndex_0 0 rfl rfl ?_
  refine z_if_ltF hz 9 dJ10_checkIndex_1 (by decide) (nI_pos (by omega)) ?_
  refine z_iload_n hz dJ10_checkIndex_4 0 rfl rfl ?_
  refine z_iload_n hz dJ10_checkIndex_5 1 rfl rfl ?_
  refine z_icmpN_ltT hz rfl rfl (by omega) (by omega) 16 dJ10_checkIndex_6 (by decide) hk ?_
  refine z_iload_n hz dJ10_checkIndex_16 0 rfl rfl ?_
  exact zr_iret hQ hz hr hlk dJ10_checkIndex_17 rfl
theorem mJ_check10 {G : zG} (k n0 : Nat) (fq : Option Nat) (hk : k < n0) (hn : n0 < 2 ^ 31) : zRd G yJ10_checkIndex (ws_ yJ10_checkIndex cJ10_checkIndex 3 (some .int)) (zRm 0 0 0 0) [.int (nI k), .int (nI n0), va_rf fq] [] (fun v9 => v9 = some (.int (nI k))) := by
  cases fq with
  | none => exact mJ_check10_n k n0 hk hn
  | some t9 => exact mJ_check10_s k n0 t9 hk hn
set_option maxHeartbeats 400000 in
theorem mJ_check12 {G : zG} (k n0 : Nat) (hk : k < n0) (hn : n0 < 2 ^ 31) : zRd G yJ12_checkIndex (ws_ yJ12_checkIndex cJ12_checkIndex 2 none) (zRm 1 0 0 30) [.int (nI k), .int (nI n0)] [] (fun v9 => v9 = none) := by
  refine zRd.of (by decide +kernel) (Nat.le_of_ble_eq_true rfl) ?_
  intro p e s m args below meth c hz hP hr hlk Q hQ
  refine z_lv (lv' := [(0, .int (nI k)), (1, .int (nI n0))]) [0, 1] rfl ?_
  refine z_iload_n hz dJ12_checkIndex_0 0 rfl rfl ?_
  refine z_iload_n hz dJ12_checkIndex_1 1 rfl rfl ?_
  refine z_szq hz zSp.rd q935 dJ12_checkIndex_2 (fun fq => ?_)
  refine z_callRD (st2 := [.int (nI k)]) hz zKp.rd (zk_S hz (rm := (zRm 0 0 0 0)) (As := [.int (nI k), .int (nI n0), va_rf fq]) (rest := []) 3 q2205 q653 q102 q654 (by decide +kernel) ⟨Nat.le_of_ble_eq_true rfl, Nat.le_of_ble_eq_true rfl⟩ ⟨Nat.le_of_ble_eq_true rfl, Nat.le_of_ble_eq_true rfl⟩ rfl rfl (Nat.le_of_ble_eq_true rfl) dJ12_checkIndex_5) (mJ_check10 k n0 fq (by omega) (by omega)) (fun _ _ _ => zP0) rfl ?_
  refine z_pop hz dJ12_checkIndex_8 rfl ?_
  exact zr_vret hQ hz hr hlk dJ12_checkIndex_9 rfl
set_option maxHeartbeats 400000 in
theorem mJ_charAt13 {G : zG} (i0 : Nat) (hi : i0 < 11) (k : Nat) (hk : k < zLen.getD i0 0) : zRd G yJ13_charAt (ws_ yJ13_charAt cJ13_charAt 2 (Option.some Jvm.ClassFile.FieldType.char)) (zRm 2 0 0 60) [.ref (G.2.2.2 (12 + i0)), .int (nI k)] [] (fun v9 => v9 = some (.int (chS i0 k))) := by
  refine zRd.of (by decide +kernel) (Nat.le_of_ble_eq_true rfl) ?_
  intro p e s m args below meth c hz hP hr hlk Q hQ
  refine z_lv (lv' := [(0, .ref (G.2.2.2 (12 + i0))), (1, .int (nI k))]) [0, 1] rfl ?_
  have hlb := zLen_b i0 hi
  refine z_iload_n hz dJ13_charAt_0 1 rfl rfl ?_
  refine z_aload_n hz dJ13_charAt_1 0 rfl rfl ?_
  refine z_slen hz zSp.rd hi dJ13_charAt_2 ?_
  refine z_callRD (st2 := []) hz zKp.rd (zk_S hz (rm := (zRm 1 0 0 30)) (As := [.int (nI k), .int (nI (zLen.getD i0 0))]) (rest := []) 2 q2202 q2203 q107 q2204 (by decide +kernel) ⟨Nat.le_of_ble_eq_true rfl, Nat.le_of_ble_eq_true rfl⟩ ⟨Nat.le_of_ble_eq_true rfl, Nat.le_of_ble_eq_true rfl⟩ rfl rfl (Nat.le_of_ble_eq_true rfl) dJ13_charAt_3) (mJ_check12 k (zLen.getD i0 0) (by omega) (by omega)) (fun _ _ _ => zP0) rfl ?_
  refine z_aload_n hz dJ13_charAt_6 0 rfl rfl ?_
  refine z_iload_n hz dJ13_charAt_7 1 rfl rfl ?_
  refine z_sbald hz zSp.rd hi rfl (by omega) (by omega) dJ13_charAt_8 ?_
  refine z_sipush hz 255 dJ13_charAt_9 ks_255 ?_
  refine z_iand hz dJ13_charAt_12 ?_
  refine z_i2c hz dJ13_charAt_13 ?_
  refine z_top (chS_all i0 hi k hk).1 ?_
  exact zr_zret hQ hz hr hlk (chS_all i0 hi k hk).2.1 dJ13_charAt_14 rfl
set_option maxHeartbeats 400000 in
theorem mJ_charAt {G : zG} (i0 : Nat) (hi : i0 < 11) (k : Nat) (hk : k < zLen.getD i0 0) : zRd G yJ12_charAt (ws_ yJ12_charAt cJ12_charAt 2 (Option.some Jvm.ClassFile.FieldType.char)) (zRm 3 0 0 90) [.ref (G.2.2.2 (1 + i0)), .int (nI k)] [] (fun v9 => v9 = some (.int (chS i0 k))) := by
  refine zRd.of (by decide +kernel) (Nat.le_of_ble_eq_true rfl) ?_
  intro p e s m args below meth c hz hP hr hlk Q hQ
  refine z_lv (lv' := [(0, .ref (G.2.2.2 (1 + i0))), (1, .int (nI k))]) [0, 1] rfl ?_
  refine z_aload_n hz dJ12_charAt_0 0 rfl rfl ?_
  refine z_callRD (st2 := [.int 1]) hz zKp.rd (zk_V hz (rm := (zRm 0 0 0 0)) (As := []) (rest := []) 0 q892 q893 q894 q107 q895 (by decide +kernel) ⟨Nat.le_of_ble_eq_true rfl, Nat.le_of_ble_eq_true rfl⟩ ⟨Nat.le_of_ble_eq_true rfl, Nat.le_of_ble_eq_true rfl⟩ (z_srecv hz zSp.rd hi) rfl rfl (Nat.le_of_ble_eq_true rfl) dJ12_charAt_1) (mJ_isLatin1 i0 hi) (fun _ _ _ => zP0) rfl ?_
  refine z_if_eqF hz 16 dJ12_charAt_4 (by decide) (by decide) ?_
  refine z_aload_n hz dJ12_charAt_7 0 rfl rfl ?_
  refine z_svalue hz zSp.rd hi q2580 dJ12_charAt_8 ?_
  refine z_iload_n hz dJ12_charAt_11 1 rfl rfl ?_
  refine z_callRD (st2 := [.int (chS i0 k)]) hz zKp.rd (zk_S hz (rm := (zRm 2 0 0 60)) (As := [.ref (G.2.2.2 (12 + i0)), .int (nI k)]) (rest := []) 2 q2199 q2200 q108 q2201 (by decide +kernel) ⟨Nat.le_of_ble_eq_true rfl, Nat.le_of_ble_eq_true rfl⟩ ⟨Nat.le_of_ble_eq_true rfl, Nat.le_of_ble_eq_true rfl⟩ rfl rfl (Nat.le_of_ble_eq_true rfl) dJ12_charAt_12) (mJ_charAt13 i0 hi k hk) (fun _ _ _ => zP0) rfl ?_
  exact zr_zret hQ hz hr hlk (chS_all i0 hi k hk).2.1 dJ12_charAt_15 rfl
