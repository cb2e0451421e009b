/-! The strings' constants among the old cells: rows -/
set_option maxRecDepth 100000
section ZS
variable {p : Program} {e : Env} {R : Room} {s : State} {m : MethodId} {args : Array Value} {below : List Frame} {meth : Method} {c : Code} {cells slots nL : Nat} {Q : State → Prop} {cc : ByteArray} {own : String} {G : zG} {A : Nat → Prop} {Φ : Heap → List Loc → Prop} {pc : Nat} {lv lv' : List (Nat × Value)} {st : List Value}
/-- heaps of a kind that keep the old cells -/
def zSp (A : Nat → Prop) (s : State) (Φ : Heap → List Loc → Prop) : Prop := ∀ H locs, Φ H locs → va_S A s.heap H locs
theorem zSp.mt {bs : List va_W} : zSp A s (zΦ G A s bs) := fun _ _ h => h.2.2
theorem zSp.rd : zSp A s (zΨ s) := fun _ _ h => by rw [h.1, h.2]; exact va_S.rf
theorem zC.str (hz : zC p m c cc nL s args own G A) : vk_S 11 zLen zByt (fun i => G.2.2.2 (1 + i)) (fun i => G.2.2.2 (12 + i)) A s s.heap := (zC.old hz).2.2.2.2.2.2.1
theorem z_svalue (hz : zC p m c cc nL s args own G A) (hsp : zSp A s Φ) {i index : Nat} (hi : i < 11) (hlink : Cond.fieldLink own index "java/lang/String" "value" "[B" ∈ lw_all) (hd : decode cc pc = .ok (.getfield index, 3)) (kk : zW p G.1 e R s m args below meth c nL Q cells slots Φ (pc + 3) lv (.ref (G.2.2.2 (12 + i)) :: st)) : zW p G.1 e R s m args below meth c nL Q cells slots Φ pc lv (.ref (G.2.2.2 (1 + i)) :: st) :=
  fun H locs ls hΦ hl => vk_getf hz.x hz.b ((hz.str.1 i hi).2.2.1) (hsp H locs hΦ) hz.o (hz.t _ hlink) (fun _ h => h) hd (kk H locs ls hΦ hl)
theorem z_scoder (hz : zC p m c cc nL s args own G A) (hsp : zSp A s Φ) {i index : Nat} (hi : i < 11) (hlink : Cond.fieldLink own index "java/lang/String" "coder" "B" ∈ lw_all) (hd : decode cc pc = .ok (.getfield index, 3)) (kk : zW p G.1 e R s m args below meth c nL Q cells slots Φ (pc + 3) lv (.int 0 :: st)) : zW p G.1 e R s m args below meth c nL Q cells slots Φ pc lv (.ref (G.2.2.2 (1 + i)) :: st) :=
  fun H locs ls hΦ hl => vk_getf hz.x hz.b ((hz.str.1 i hi).2.1) (hsp H locs hΦ) hz.o (hz.t _ hlink) (fun _ h => h) hd (kk H locs ls hΦ hl)
theorem z_sbald (hz : zC p m c cc nL s args own G A) (hsp : zSp A s Φ) {i j : Nat} {x : Int32} (hi : i < 11) (hx : x = nI j) (hj : j < zLen.getD i 0) (hn : zLen.getD i 0 < 2 ^ 31) (hd : decode cc pc = .ok (.baload, 1)) (kk : zW p G.1 e R s m args below meth c nL Q cells slots Φ (pc + 1) lv (.int ((zByt.getD i []).getD j 0) :: st)) : zW p G.1 e R s m args below meth c nL Q cells slots Φ pc lv (.int x :: .ref (G.2.2.2 (12 + i)) :: st) :=
  fun H locs ls hΦ hl => by
    subst hx
    exact va_tb hz.x hz.b ((hz.str.1 i hi).2.2.2) (hsp H locs hΦ) (vp_in_nI hj hn) (by show Value.int _ = _; rw [nI_clamp (Nat.lt_trans hj hn)]) hd (kk H locs ls hΦ hl)
theorem z_slen (hz : zC p m c cc nL s args own G A) (hsp : zSp A s Φ) {i : Nat} (hi : i < 11) (hd : decode cc pc = .ok (.arraylength, 1)) (kk : zW p G.1 e R s m args below meth c nL Q cells slots Φ (pc + 1) lv (.int (nI (zLen.getD i 0)) :: st)) : zW p G.1 e R s m args below meth c nL Q cells slots Φ pc lv (.ref (G.2.2.2 (12 + i)) :: st) :=
  fun H locs ls hΦ hl => va_tlen hz.x hz.b ((hz.str.1 i hi).2.2.2) (hsp H locs hΦ) rfl hd (kk H locs ls hΦ hl)
theorem z_scompact (hz : zC p m c cc nL s args own G A) (hsp : zSp A s Φ) {index : Nat} (hlink : Cond.fieldLink own index "java/lang/String" "COMPACT_STRINGS" "Z" ∈ lw_all) (hd : decode cc pc = .ok (.getstatic index, 3)) (kk : zW p G.1 e R s m args below meth c nL Q cells slots Φ (pc + 3) lv (.int 1 :: st)) : zW p G.1 e R s m args below meth c nL Q cells slots Φ pc lv st :=
  fun H locs ls hΦ hl => va_gets hz.x hz.b ((zC.old hz).2.2.2.2.1) (hsp H locs hΦ) hz.o (hz.t _ hlink) (fun _ h => h) hd (kk H locs ls hΦ hl)
theorem z_szq (hz : zC p m c cc nL s args own G A) (hsp : zSp A s Φ) {index : Nat} (hlink : Cond.fieldLink own index "jdk/internal/util/Preconditions" "SIOOBE_FORMATTER" "Ljava/util/function/BiFunction;" ∈ lw_all) (hd : decode cc pc = .ok (.getstatic index, 3)) (kk : ∀ q : Option Nat, zW p G.1 e R s m args below meth c nL Q cells slots Φ (pc + 3) lv (va_rf q :: st)) : zW p G.1 e R s m args below meth c nL Q cells slots Φ pc lv st :=
  fun H locs ls hΦ hl => by
    rcases (zC.old hz).2.2.2.2.2.1 with h | ⟨t, h⟩
    · exact va_gets hz.x hz.b h (hsp H locs hΦ) hz.o (hz.t _ hlink) (fun _ h => h) hd (kk none H locs ls hΦ hl)
    · exact va_gets hz.x hz.b h (hsp H locs hΦ) hz.o (hz.t _ hlink) (fun _ h => h) hd (kk (some t) H locs ls hΦ hl)
theorem z_srecv (hz : zC p m c cc nL s args own G A) (hsp : zSp A s Φ) {i : Nat} (hi : i < 11) : ∀ H locs, Φ H locs → ∃ cell : Cell, H[G.2.2.2 (1 + i)]? = some cell ∧ cell.vm.isStatics = false ∧ s.vm.findClass "java/lang/String" = some cell.cls :=
  fun H locs hΦ => vk_recv (i := i) (adK := fun i => G.2.2.2 (1 + i)) hz.str hi (hsp H locs hΦ)
theorem zr_vret {rpost : Option Value → Prop} (hQ : Q = MQ below (zRPost rpost) args s cells slots (fun _ => False)) (hz : zC p m c cc nL s args own G A) (hr : meth.sig.returnType = none) (hlocks : meth.locks = false) (hd : decode cc pc = .ok (.return_, 1)) (hp : rpost none) : zW p G.1 e R s m args below meth c nL Q cells slots (zΨ s) pc lv [] :=
  fun H locs ls hΦ hl => by subst hQ; exact W.vret hz.x hz.b hr (fun t ht hW => ⟨_, rfl, hp, by rw [ht, hΦ.1]⟩) (by rw [hΦ.2]; intro q hq; cases hq) hd hlocks
end ZS
/-- a literal's k-th character -/
def chS (i k : Nat) : Int32 := (zByt.getD i []).getD k 0
theorem chS_all : ∀ i, i < 11 → ∀ k, k < zLen.getD i 0 → (((zByt.getD i []).getD k 0 &&& 255).toUInt32 % 65536).toInt32 = chS i k ∧ narrow .char (.int (chS i k)) = .int (chS i k) ∧ (chS i k).toInt8.toInt32 = chS i k := by decide +kernel
theorem zLen_b : ∀ i, i < 11 → 1 ≤ zLen.getD i 0 ∧ zLen.getD i 0 ≤ 3 := by decide +kernel
theorem shr0 (x : Int32) : x >>> ((0 : Int32) &&& 31) = x := by
  rw [show (0 : Int32) &&& 31 = 0 by decide]; simp
