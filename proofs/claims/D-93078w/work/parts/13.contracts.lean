/-! CONTRACTS in one form (zMet: may change its blocks; zRd: reads alone), their bodies, their ends, their calls -/
section ZM
abbrev zRm (f k n lo : Nat) : Room := { frames := f, cells := k, slots := n, locals := lo }
/-- a contract's start: the heap holds the blocks -/
def zPre (G : zG) (w : va_W) (sz : Nat) : State → Prop := fun U => U.heap.size = sz ∧ va_P G.2.1 clG w U.heap ∧ va_K G.2.1 clG (tyG G.2.2.1) U ∧ va_D (fun _ => True) w ∧ zN U ∧ zOld G.2.2.2 (va_A w sz) U
def zPost (G : zG) (post : Option Value → List va_W → Prop) (A : Nat → Prop) : Array Value → State → Outcome → State → Prop := fun _ st oc t => (∃ (v : Option Value) (bs : List va_W), oc = .returned v ∧ post v bs ∧ va_P G.2.1 clG bs.flatten t.heap ∧ va_D A bs.flatten) ∧ va_F A st t
/-- the method returns; its answer v and the blocks bs behind it satisfy post; nothing else has changed -/
def zMet (G : zG) (y : MethodName) (ws : List Cond) (rm : Room) (av : List Value) (bs : List va_W) (post : Option Value → List va_W → Prop) : Prop :=
  ∀ sz : Nat, Met G.1 y ws rm (va_Pc av (zPre G bs.flatten sz)) (zPost G post (va_A bs.flatten sz)) rm.cells rm.slots (va_A bs.flatten sz)
def zRPre (G : zG) (w : va_W) : State → Prop := fun U => va_P G.2.1 clG w U.heap ∧ va_K G.2.1 clG (tyG G.2.2.1) U ∧ zN U ∧ zOld G.2.2.2 (fun _ => False) U
def zRPost (post : Option Value → Prop) : Array Value → State → Outcome → State → Prop := fun _ st oc t => ∃ v : Option Value, oc = .returned v ∧ post v ∧ t.heap = st.heap
/-- the method returns, its answer satisfies post; it has changed nothing -/
def zRd (G : zG) (y : MethodName) (ws : List Cond) (rm : Room) (av : List Value) (w : va_W) (post : Option Value → Prop) : Prop :=
  Met G.1 y ws rm (va_Pc av (zRPre G w)) (zRPost post) rm.cells rm.slots (fun _ => False)
theorem zMet.imp {G : zG} {y : MethodName} {ws : List Cond} {rm : Room} {av : List Value} {bs : List va_W} {post post' : Option Value → List va_W → Prop} (h : zMet G y ws rm av bs post) (hi : ∀ v bs, post v bs → post' v bs) : zMet G y ws rm av bs post' := by
  intro sz p e ha hc hk s m args below hf happ hP hK
  obtain ⟨k, o, h1, h2, h3, ⟨⟨v, bs1, e1, e2, e3⟩, e4⟩, e5⟩ := h sz p e ha hc hk s m args below hf happ hP hK
  exact ⟨k, o, h1, h2, h3, ⟨⟨v, bs1, e1, hi _ _ e2, e3⟩, e4⟩, e5⟩
theorem zRd.imp {G : zG} {y : MethodName} {ws : List Cond} {rm : Room} {av : List Value} {w : va_W} {post post' : Option Value → Prop} (h : zRd G y ws rm av w post) (hi : ∀ v, post v → post' v) : zRd G y ws rm av w post' := by
  intro p e ha hc hk s m args below hf happ hP hK
  obtain ⟨k, o, h1, h2, h3, ⟨v, e1, e2, e3⟩, e4⟩ := h p e ha hc hk s m args below hf happ hP hK
  exact ⟨k, o, h1, h2, h3, ⟨v, e1, hi _ e2, e3⟩, e4⟩
/-- a method's body: from its entry -/
theorem zMet.of {G : zG} {y : MethodName} {cc : ByteArray} {L : Nat} {ret : Option FieldType} {rm : Room} {av : List Value} {bs : List va_W} {post : Option Value → List va_W → Prop} (hy : plainName y.cls = true) (hL : (lg_sl av).length ≤ L)
    (body : ∀ (p : Program) (e : Env) (s : State) (m : MethodId) (args : Array Value) (below : List Frame) (meth : Method) (c : Code) (A : Nat → Prop), zC p m c cc L s args y.cls G A → (∀ q, s.heap.size ≤ q → A q) → meth.sig.returnType = ret → meth.locks = false → meth.name = y.name → ∀ Q : State → Prop, Q = MQ below (zPost G post A) args s rm.cells rm.slots A →
      zW p G.1 e rm s m args below meth c L Q 0 0 (zΦ G A s bs) 0 (lv_args 0 av) []) : zMet G y (ws_ y cc L ret) rm av bs post := by
  intro sz
  refine Met.ofW (cc := cc) (maxL := L) (ret := ret) hy rfl ?_
  intro p e s m args below meth c s₁ B hml hv
  obtain ⟨rfl, hsz, hP, hK, hD0, hN, hO⟩ := hv
  subst hsz
  have hts := atoms_spec (ws := ws_ y cc L ret) B.pre
  have hts : ∀ w ∈ lw_all, w.before av.toArray s = true := fun w h => hts w (List.mem_cons_of_mem _ h)
  have hz : zC p m c cc L s av.toArray y.cls G (va_A bs.flatten s.heap.size) := ⟨⟨B.exec, B.bytes, hml, findClass_of_methodNamed B.named, hts⟩, hK, hN, hO⟩
  have h1 := body p e s m av.toArray below meth c (va_A bs.flatten s.heap.size) hz (fun q h => Or.inr h) B.returns B.notSynchronized (name_of_methodNamed B.named B.method).1 _ rfl s.heap [] _ ⟨hP, hD0.self, va_S.rf⟩ (lv_entry av hL)
  rw [lg_entry_eq]
  exact h1
theorem zRd.of {G : zG} {y : MethodName} {cc : ByteArray} {L : Nat} {ret : Option FieldType} {rm : Room} {av : List Value} {w : va_W} {post : Option Value → Prop} (hy : plainName y.cls = true) (hL : (lg_sl av).length ≤ L)
    (body : ∀ (p : Program) (e : Env) (s : State) (m : MethodId) (args : Array Value) (below : List Frame) (meth : Method) (c : Code), zC p m c cc L s args y.cls G (fun _ => False) → va_P G.2.1 clG w s.heap → meth.sig.returnType = ret → meth.locks = false → ∀ Q : State → Prop, Q = MQ below (zRPost post) args s rm.cells rm.slots (fun _ => False) →
      zW p G.1 e rm s m args below meth c L Q 0 0 (zΨ s) 0 (lv_args 0 av) []) : zRd G y (ws_ y cc L ret) rm av w post := by
  refine Met.ofW (cc := cc) (maxL := L) (ret := ret) hy rfl ?_
  intro p e s m args below meth c s₁ B hml hv
  obtain ⟨rfl, hP, hK, hN, hO⟩ := hv
  have hts := atoms_spec (ws := ws_ y cc L ret) B.pre
  have hts : ∀ w ∈ lw_all, w.before av.toArray s = true := fun w h => hts w (List.mem_cons_of_mem _ h)
  have hz : zC p m c cc L s av.toArray y.cls G (fun _ => False) := ⟨⟨B.exec, B.bytes, hml, findClass_of_methodNamed B.named, hts⟩, hK, hN, hO⟩
  have h1 := body p e s m av.toArray below meth c hz hP B.returns B.notSynchronized _ rfl s.heap [] _ ⟨rfl, rfl⟩ (lv_entry av hL)
  rw [lg_entry_eq]
  exact h1
end ZM
section ZE
variable {p : Program} {e : Env} {R : Room} {s : State} {m : MethodId} {args : Array Value} {below : List Frame} {meth : Method} {c : Code} {cells slots nL : Nat} {Q : State → Prop} {cc : ByteArray} {own : String} {G : zG} {A : Nat → Prop} {Φ : Heap → List Loc → Prop} {pc : Nat} {lv lv' : List (Nat × Value)} {st : List Value} {bs : List va_W} {post : Option Value → List va_W → Prop} {rpost : Option Value → Prop}
/-- ends: a method that may change its blocks -/
theorem z_iret {v : Int32} (hQ : Q = MQ below (zPost G post A) args s cells slots A) (hz : zC p m c cc nL s args own G A) (hr : meth.sig.returnType = some .int) (hlocks : meth.locks = false) (hd : decode cc pc = .ok (.ireturn, 1)) (hp : post (some (.int v)) bs) : zW p G.1 e R s m args below meth c nL Q cells slots (zΦ G A s bs) pc lv [.int v] :=
  fun H locs ls hΦ hl => by subst hQ; exact W.iret hz.x hz.b hr (fun t ht hW => ⟨⟨_, bs, rfl, hp, by rw [ht]; exact hΦ.1, hΦ.2.1⟩, hΦ.2.2.F ht⟩) hΦ.2.2.2.2 hd hlocks
theorem z_zret {v : Int32} {ty : FieldType} (hQ : Q = MQ below (zPost G post A) args s cells slots A) (hz : zC p m c cc nL s args own G A) (hr : meth.sig.returnType = some ty) (hlocks : meth.locks = false) (hn : narrow ty (.int v) = .int v) (hd : decode cc pc = .ok (.ireturn, 1)) (hp : post (some (.int v)) bs) : zW p G.1 e R s m args below meth c nL Q cells slots (zΦ G A s bs) pc lv [.int v] :=
  fun H locs ls hΦ hl => by subst hQ; exact W.zret hz.x hz.b hr hn (fun t ht hW => ⟨⟨_, bs, rfl, hp, by rw [ht]; exact hΦ.1, hΦ.2.1⟩, hΦ.2.2.F ht⟩) hΦ.2.2.2.2 hd hlocks
theorem z_lret {v : Int64} (hQ : Q = MQ below (zPost G post A) args s cells slots A) (hz : zC p m c cc nL s args own G A) (hr : meth.sig.returnType = some .long) (hlocks : meth.locks = false) (hd : decode cc pc = .ok (.lreturn, 1)) (hp : post (some (.long v)) bs) : zW p G.1 e R s m args below meth c nL Q cells slots (zΦ G A s bs) pc lv [.long v] :=
  fun H locs ls hΦ hl => by subst hQ; exact W.lret hz.x hz.b hr (fun t ht hW => ⟨⟨_, bs, rfl, hp, by rw [ht]; exact hΦ.1, hΦ.2.1⟩, hΦ.2.2.F ht⟩) hΦ.2.2.2.2 hd hlocks
theorem z_aret {v : Value} {rt : FieldType} (hQ : Q = MQ below (zPost G post A) args s cells slots A) (hz : zC p m c cc nL s args own G A) (hr : meth.sig.returnType = some rt) (hlocks : meth.locks = false) (hrt : (∃ n, rt = .object n) ∨ ∃ t, rt = .array t) (hv : v = .null ∨ ∃ a, v = .ref a) (hd : decode cc pc = .ok (.areturn, 1)) (hp : post (some v) bs) : zW p G.1 e R s m args below meth c nL Q cells slots (zΦ G A s bs) pc lv [v] :=
  fun H locs ls hΦ hl => by subst hQ; exact W.aret hz.x hz.b hr hrt hv (fun t ht hW => ⟨⟨_, bs, rfl, hp, by rw [ht]; exact hΦ.1, hΦ.2.1⟩, hΦ.2.2.F ht⟩) hΦ.2.2.2.2 hd hlocks
theorem z_vret (hQ : Q = MQ below (zPost G post A) args s cells slots A) (hz : zC p m c cc nL s args own G A) (hr : meth.sig.returnType = none) (hlocks : meth.locks = false) (hd : decode cc pc = .ok (.return_, 1)) (hp : post none bs) : zW p G.1 e R s m args below meth c nL Q cells slots (zΦ G A s bs) pc lv [] :=
  fun H locs ls hΦ hl => by subst hQ; exact W.vret hz.x hz.b hr (fun t ht hW => ⟨⟨_, bs, rfl, hp, by rw [ht]; exact hΦ.1, hΦ.2.1⟩, hΦ.2.2.F ht⟩) hΦ.2.2.2.2 hd hlocks
/-- ends of readers -/
theorem zr_iret {v : Int32} (hQ : Q = MQ below (zRPost rpost) args s cells slots (fun _ => False)) (hz : zC p m c cc nL s args own G A) (hr : meth.sig.returnType = some .int) (hlocks : meth.locks = false) (hd : decode cc pc = .ok (.ireturn, 1)) (hp : rpost (some (.int v))) : zW p G.1 e R s m args below meth c nL Q cells slots (zΨ s) pc lv [.int v] :=
  fun H locs ls hΦ hl => by subst hQ; exact W.iret hz.x hz.b hr (fun t ht hW => ⟨_, rfl, hp, by rw [ht, hΦ.1]⟩) (by rw [hΦ.2]; intro q hq; cases hq) hd hlocks
theorem zr_zret {v : Int32} {ty : FieldType} (hQ : Q = MQ below (zRPost rpost) args s cells slots (fun _ => False)) (hz : zC p m c cc nL s args own G A) (hr : meth.sig.returnType = some ty) (hlocks : meth.locks = false) (hn : narrow ty (.int v) = .int v) (hd : decode cc pc = .ok (.ireturn, 1)) (hp : rpost (some (.int v))) : zW p G.1 e R s m args below meth c nL Q cells slots (zΨ s) pc lv [.int v] :=
  fun H locs ls hΦ hl => by subst hQ; exact W.zret hz.x hz.b hr hn (fun t ht hW => ⟨_, rfl, hp, by rw [ht, hΦ.1]⟩) (by rw [hΦ.2]; intro q hq; cases hq) hd hlocks
theorem zr_lret {v : Int64} (hQ : Q = MQ below (zRPost rpost) args s cells slots (fun _ => False)) (hz : zC p m c cc nL s args own G A) (hr : meth.sig.returnType = some .long) (hlocks : meth.locks = false) (hd : decode cc pc = .ok (.lreturn, 1)) (hp : rpost (some (.long v))) : zW p G.1 e R s m args below meth c nL Q cells slots (zΨ s) pc lv [.long v] :=
  fun H locs ls hΦ hl => by subst hQ; exact W.lret hz.x hz.b hr (fun t ht hW => ⟨_, rfl, hp, by rw [ht, hΦ.1]⟩) (by rw [hΦ.2]; intro q hq; cases hq) hd hlocks
theorem zr_aret {v : Value} {rt : FieldType} (hQ : Q = MQ below (zRPost rpost) args s cells slots (fun _ => False)) (hz : zC p m c cc nL s args own G A) (hr : meth.sig.returnType = some rt) (hlocks : meth.locks = false) (hrt : (∃ n, rt = .object n) ∨ ∃ t, rt = .array t) (hv : v = .null ∨ ∃ a, v = .ref a) (hd : decode cc pc = .ok (.areturn, 1)) (hp : rpost (some v)) : zW p G.1 e R s m args below meth c nL Q cells slots (zΨ s) pc lv [v] :=
  fun H locs ls hΦ hl => by subst hQ; exact W.aret hz.x hz.b hr hrt hv (fun t ht hW => ⟨_, rfl, hp, by rw [ht, hΦ.1]⟩) (by rw [hΦ.2]; intro q hq; cases hq) hd hlocks
/-- what a call of a kind asks, whatever the contract -/
def zCk (p : Program) (l : Launch) (e : Env) (R : Room) (s : State) (m : MethodId) (args : Array Value) (below : List Frame) (meth : Method) (c : Code) (nL : Nat) (y : MethodName) (ws : List Cond) (rm : Room) (cells slots pc len : Nat) (av st rest : List Value) (Φ : Heap → List Loc → Prop) : Prop :=
  ∀ (H : Heap) (locs : List Loc) (ls : Array Slot) (Pc : Array Value → State → Prop) (Qc : Array Value → State → Outcome → State → Prop) (free : Addr → Prop), Φ H locs → ls.size = nL → FrameBlind Pc → (∀ U : State, U.heap = H → s.WarmedH U.vm → Pc av.toArray U) → Met l y ws rm Pc Qc rm.cells rm.slots free →
    ∀ T : State, T.heap = H → Stand p l e R s m args below meth c T locs cells slots → ∃ (v : Option Value) (st₀ t T' : State) (L : List Loc), st₀.heap = H ∧ Stand p l e R s m args below meth c T' (locs ++ L) (cells + rm.cells) (slots + rm.slots) ∧ (∀ q ∈ L, free q.base) ∧ T'.heap = t.heap ∧ T'.vm = t.vm ∧ Qc av.toArray st₀ (.returned v) t ∧
      Goes p e below T (F0 m pc ls st) T' (F0 m (pc + len) ls (v.toList ++ rest))
theorem zPre_blind {av : List Value} {w : va_W} {sz : Nat} : FrameBlind (va_Pc av (zPre G w sz)) := by
  intro a U g mk h
  obtain ⟨e1, e2, e3, e4, e5, e6, e7⟩ := h
  exact ⟨e1, e2, e3, va_K.moved (u := U) (U := U.calling g mk a) (Vm.Alike.refl U.vm) e4, e5, zN_warm (U := U.calling g mk a) (State.WarmedH.refl U) e6,
    zOld_to (H := U.heap) e7 (fun _ _ _ => rfl) (fun _ h => h) rfl (State.WarmedH.refl U)⟩
theorem zRPre_blind {av : List Value} {w : va_W} : FrameBlind (va_Pc av (zRPre G w)) := by
  intro a U g mk h
  obtain ⟨e1, e3, e4, e6, e7⟩ := h
  exact ⟨e1, e3, va_K.moved (u := U) (U := U.calling g mk a) (Vm.Alike.refl U.vm) e4, zN_warm (U := U.calling g mk a) (State.WarmedH.refl U) e6,
    zOld_to (H := U.heap) e7 (fun _ _ _ => rfl) (fun _ h => h) rfl (State.WarmedH.refl U)⟩
/-- a call of a method that may change its blocks -/
theorem z_call (hz : zC p m c cc nL s args own G A) (hA : ∀ q, s.heap.size ≤ q → A q) {y : MethodName} {ws : List Cond} {rm : Room} {av rest : List Value} {cbs : List va_W} {len : Nat} {cpost : Option Value → List va_W → Prop}
    (hk : zCk p G.1 e R s m args below meth c nL y ws rm cells slots pc len av st rest (zΦ G A s bs)) (hM : zMet G y ws rm av cbs cpost) (is : List Nat) (hC : is.map (fun i => bs[i]?) = cbs.map some) (hn : va_nd is = true)
    (kk : ∀ (v : Option Value) (bs1 : List va_W), cpost v bs1 → zW p G.1 e R s m args below meth c nL Q (cells + rm.cells) (slots + rm.slots) (zΦ G A s (zplug bs is bs1)) (pc + len) lv (v.toList ++ rest)) : zW p G.1 e R s m args below meth c nL Q cells slots (zΦ G A s bs) pc lv st := by
  intro H locs ls hΦ hl T hT X
  obtain ⟨hP, hD, hS⟩ := hΦ
  have hF := zfree (H := H) hD hS hA hC hn
  have p2 := zcut_perm is bs cbs hC hn
  have hPc : va_P G.2.1 clG cbs.flatten H := zP_iff.mpr fun q hq => zP_iff.mp (zP_perm p2 hP) q (List.mem_append_left _ hq)
  have hDc : va_D (fun _ => True) cbs.flatten := by
    have h1 := (zD_iff.mp (zD_perm p2 hD)).1
    rw [List.map_append] at h1
    exact zD_iff.mpr ⟨(List.nodup_append.mp h1).1, fun _ _ => trivial⟩
  obtain ⟨v, st₀, t, T', L, h0, X', hL, e1, e2, ⟨⟨v2, bs1, hv, hp, hb, hd⟩, hz1, hk1⟩, hst⟩ := hk H locs ls _ _ _ ⟨hP, hD, hS⟩ hl.1 zPre_blind (fun U hU hW => ⟨rfl, by rw [hU], by rw [hU]; exact hPc, va_K.moved hW.alike hz.k, hDc, zN_warm hW hz.n, zOld_to hz.old hS.2.1 hF hU hW⟩) (hM H.size) T hT X
  cases hv
  rw [h0] at hz1 hk1
  have j := zjoin (H1 := T'.heap) hP hD hC hn (fun q g1 g2 => by rw [e1]; exact hk1 q g1 g2) hF (by rw [e1]; exact hb) hd
  have hS' : va_S A s.heap T'.heap (locs ++ L) := ⟨Nat.le_trans hS.1 (by rw [e1]; exact hz1), fun q h1 h2 => by rw [e1, hk1 q (Nat.lt_of_lt_of_le h1 hS.1) (fun z => h2 (hF q z))]; exact hS.2.1 q h1 h2, fun q hq => by
      rcases List.mem_append.mp hq with h | h
      · exact hS.2.2 q h
      · exact hF _ (hL q h)⟩
  obtain ⟨t2, a1, b1⟩ := kk v bs1 hp T'.heap (locs ++ L) ls ⟨j.1, j.2, hS'⟩ hl T' rfl X'
  exact ⟨t2, hst t2 a1, b1⟩
/-- a call of a reader -/
theorem z_callR (hz : zC p m c cc nL s args own G A) (hkp : zKp A s Φ) {y : MethodName} {ws : List Cond} {rm : Room} {av rest : List Value} {w : va_W} {len : Nat} {cpost : Option Value → Prop}
    (hk : zCk p G.1 e R s m args below meth c nL y ws rm cells slots pc len av st rest Φ) (hM : zRd G y ws rm av w cpost) (hw : ∀ H locs, Φ H locs → va_P G.2.1 clG w H)
    (kk : ∀ (v : Option Value), cpost v → zW p G.1 e R s m args below meth c nL Q (cells + rm.cells) (slots + rm.slots) Φ (pc + len) lv (v.toList ++ rest)) : zW p G.1 e R s m args below meth c nL Q cells slots Φ pc lv st := by
  intro H locs ls hΦ hl T hT X
  obtain ⟨v, st₀, t, T', L, h0, X', hL, e1, e2, ⟨v2, hv, hp, hh⟩, hst⟩ := hk H locs ls _ _ _ hΦ hl.1 zRPre_blind (fun U hU hW => ⟨rfl, by rw [hU]; exact hw H locs hΦ, va_K.moved hW.alike hz.k, zN_warm hW hz.n, zOld_to hz.old (hkp H locs hΦ) (fun _ h => h.elim) hU hW⟩) hM T hT X
  cases hv
  have hL0 : L = [] := by
    cases L with
    | nil => rfl
    | cons q l => exact (hL q List.mem_cons_self).elim
  subst hL0
  rw [List.append_nil] at X'
  have hh' : T'.heap = H := by rw [e1, hh, h0]
  obtain ⟨t2, a1, b1⟩ := kk v hp H locs ls hΦ hl T' hh' X'
  exact ⟨t2, hst t2 a1, b1⟩
/-- the kinds of calls -/
theorem zk_V (hz : zC p m c cc nL s args own G A) {y : MethodName} {C : String} {index : Nat} {bytes : ByteArray} {maxL : Nat} {ret : Option FieldType} {rm : Room} {b : Nat} {As rest : List Value} (n : Nat) (q1 : Cond.methodLink own index y ∈ lw_all) (q2 : Cond.instanceMethod y ∈ lw_all) (q3 : Cond.selects C y y ∈ lw_all) (q4 : Cond.initialized C ∈ lw_all) (q5 : Cond.code y bytes maxL ret ∈ lw_all)
    (hy : y.cls = C ∧ y.cls ≠ "java/lang/invoke/MethodHandle" ∧ y.cls ≠ "java/lang/invoke/VarHandle" ∧ (parseMethodDescriptor y.desc).map (fun d => d.parameters.length) = some n) (hR : rm.frames + 1 ≤ R.frames ∧ 8 + (maxL + 11) + rm.locals ≤ R.locals) (hf : cells + rm.cells ≤ R.cells ∧ slots + rm.slots ≤ R.slots)
    (hr : ∀ H locs, Φ H locs → ∃ cell : Cell, H[b]? = some cell ∧ cell.vm.isStatics = false ∧ s.vm.findClass C = some cell.cls) (hn : As.length = n) (hst : st = As.reverse ++ .ref b :: rest) (hcat : (rest.map fun v => v.category).sum ≤ 8) (hd : decode cc pc = .ok (.invokevirtual index, 3)) :
    zCk p G.1 e R s m args below meth c nL y (ws_ y bytes maxL ret) rm cells slots pc 3 (.ref b :: As) st rest Φ := by
  intro H locs ls Pc Qc free hΦ hls hbl hpc hM
  exact va_runV hz.1 hM (cwV n hz.t (lw_V q1 q2 q3 q4 q5) rfl rfl rfl hy hR) ⟨hbl, hr H locs hΦ, hpc⟩ rfl hn hls hst (lv_room hcat) hd hf
theorem zk_S (hz : zC p m c cc nL s args own G A) {y : MethodName} {index : Nat} {bytes : ByteArray} {maxL : Nat} {ret : Option FieldType} {rm : Room} {As rest : List Value} (n : Nat) (q1 : Cond.methodLink own index y ∈ lw_all) (q2 : Cond.static y ∈ lw_all) (q3 : Cond.initialized y.cls ∈ lw_all) (q4 : Cond.code y bytes maxL ret ∈ lw_all)
    (hy : y.cls ≠ "java/lang/invoke/MethodHandle" ∧ y.cls ≠ "java/lang/invoke/VarHandle" ∧ (parseMethodDescriptor y.desc).map (fun d => d.parameters.length) = some n) (hR : rm.frames + 1 ≤ R.frames ∧ 8 + (maxL + 11) + rm.locals ≤ R.locals) (hf : cells + rm.cells ≤ R.cells ∧ slots + rm.slots ≤ R.slots)
    (hn : As.length = n) (hst : st = As.reverse ++ rest) (hcat : (rest.map fun v => v.category).sum ≤ 8) (hd : decode cc pc = .ok (.invokestatic index, 3)) :
    zCk p G.1 e R s m args below meth c nL y (ws_ y bytes maxL ret) rm cells slots pc 3 As st rest Φ := by
  intro H locs ls Pc Qc free hΦ hls hbl hpc hM
  exact va_runS hz.1 hM (va_cwS n hz.t (lw_S q1 q2 q3 q4) rfl rfl rfl hy hR) ⟨hbl, hpc⟩ rfl hn hls hst (lv_room hcat) hd hf
theorem zk_I (hz : zC p m c cc nL s args own G A) {y : MethodName} {index : Nat} {bytes : ByteArray} {maxL : Nat} {rm : Room} {b : Nat} {As rest : List Value} (n : Nat) (q1 : Cond.methodLink own index y ∈ lw_all) (q2 : Cond.instanceMethod y ∈ lw_all) (q3 : Cond.initialized y.cls ∈ lw_all) (q4 : Cond.code y bytes maxL none ∈ lw_all) (hy1 : y.name = "<init>")
    (hy : y.cls ≠ "java/lang/invoke/MethodHandle" ∧ y.cls ≠ "java/lang/invoke/VarHandle" ∧ (parseMethodDescriptor y.desc).map (fun d => d.parameters.length) = some n) (hR : rm.frames + 1 ≤ R.frames ∧ 8 + (maxL + 11) + rm.locals ≤ R.locals) (hf : cells + rm.cells ≤ R.cells ∧ slots + rm.slots ≤ R.slots)
    (hn : As.length = n) (hst : st = As.reverse ++ .ref b :: rest) (hcat : (rest.map fun v => v.category).sum ≤ 8) (hd : decode cc pc = .ok (.invokespecial index, 3)) :
    zCk p G.1 e R s m args below meth c nL y (ws_ y bytes maxL none) rm cells slots pc 3 (.ref b :: As) st rest Φ := by
  intro H locs ls Pc Qc free hΦ hls hbl hpc hM
  exact va_runI hz.1 hM (cwI n hz.t (lw_meth q4) rfl rfl rfl (hz.t _ q3) (hz.t _ q1) (hz.t _ q2) hy1 hy hR) ⟨hbl, hpc⟩ rfl hn hls hst (lv_room hcat) hd hf
theorem zk_VN (hz : zC p m c cc nL s args own G A) {y : MethodName} {C host : String} {index : Nat} {bytes : ByteArray} {maxL : Nat} {ret : Option FieldType} {rm : Room} {b : Nat} {As rest : List Value} (n : Nat) (q1 : Cond.methodLinkNest own index y host ∈ lw_tbl) (q2 : Cond.instanceMethod y ∈ lw_all) (q3 : Cond.selects C y y ∈ lw_all) (q4 : Cond.initialized y.cls ∈ lw_all) (q5 : Cond.code y bytes maxL ret ∈ lw_all)
    (hy : y.cls ≠ "java/lang/invoke/MethodHandle" ∧ y.cls ≠ "java/lang/invoke/VarHandle" ∧ (parseMethodDescriptor y.desc).map (fun d => d.parameters.length) = some n) (hR : rm.frames + 1 ≤ R.frames ∧ 8 + (maxL + 11) + rm.locals ≤ R.locals) (hf : cells + rm.cells ≤ R.cells ∧ slots + rm.slots ≤ R.slots)
    (hr : ∀ H locs, Φ H locs → ∃ cell : Cell, H[b]? = some cell ∧ cell.vm.isStatics = false ∧ s.vm.findClass C = some cell.cls) (hn : As.length = n) (hst : st = As.reverse ++ .ref b :: rest) (hcat : (rest.map fun v => v.category).sum ≤ 8) (hd : decode cc pc = .ok (.invokevirtual index, 3)) :
    zCk p G.1 e R s m args below meth c nL y (ws_ y bytes maxL ret) rm cells slots pc 3 (.ref b :: As) st rest Φ := by
  intro H locs ls Pc Qc free hΦ hls hbl hpc hM
  exact va_runVN hz.1 hM ⟨va_cnB n hz.t (lw_meth q5) rfl rfl rfl (hz.n.1 _ q1 rfl) (hz.t _ q4) hy hR, hz.t _ q2, hz.t _ q3⟩ ⟨hbl, hr H locs hΦ, hpc⟩ rfl hn hls hst (lv_room hcat) hd hf
theorem zk_SN (hz : zC p m c cc nL s args own G A) {y : MethodName} {host : String} {index : Nat} {bytes : ByteArray} {maxL : Nat} {ret : Option FieldType} {rm : Room} {As rest : List Value} (n : Nat) (q1 : Cond.methodLinkNest own index y host ∈ lw_tbl) (q2 : Cond.static y ∈ lw_all) (q3 : Cond.initialized y.cls ∈ lw_all) (q4 : Cond.code y bytes maxL ret ∈ lw_all)
    (hy : y.cls ≠ "java/lang/invoke/MethodHandle" ∧ y.cls ≠ "java/lang/invoke/VarHandle" ∧ (parseMethodDescriptor y.desc).map (fun d => d.parameters.length) = some n) (hR : rm.frames + 1 ≤ R.frames ∧ 8 + (maxL + 11) + rm.locals ≤ R.locals) (hf : cells + rm.cells ≤ R.cells ∧ slots + rm.slots ≤ R.slots)
    (hn : As.length = n) (hst : st = As.reverse ++ rest) (hcat : (rest.map fun v => v.category).sum ≤ 8) (hd : decode cc pc = .ok (.invokestatic index, 3)) :
    zCk p G.1 e R s m args below meth c nL y (ws_ y bytes maxL ret) rm cells slots pc 3 As st rest Φ := by
  intro H locs ls Pc Qc free hΦ hls hbl hpc hM
  exact va_runSN hz.1 hM ⟨va_cnB n hz.t (lw_meth q4) rfl rfl rfl (hz.n.1 _ q1 rfl) (hz.t _ q3) hy hR, hz.t _ q2, trivial⟩ ⟨hbl, hpc⟩ rfl hn hls hst (lv_room hcat) hd hf
theorem zk_IN (hz : zC p m c cc nL s args own G A) {y : MethodName} {host : String} {index : Nat} {bytes : ByteArray} {maxL : Nat} {rm : Room} {b : Nat} {As rest : List Value} (n : Nat) (q1 : Cond.methodLinkNest own index y host ∈ lw_tbl) (q2 : Cond.instanceMethod y ∈ lw_all) (q3 : Cond.initialized y.cls ∈ lw_all) (q4 : Cond.code y bytes maxL none ∈ lw_all) (hy1 : y.name = "<init>")
    (hy : y.cls ≠ "java/lang/invoke/MethodHandle" ∧ y.cls ≠ "java/lang/invoke/VarHandle" ∧ (parseMethodDescriptor y.desc).map (fun d => d.parameters.length) = some n) (hR : rm.frames + 1 ≤ R.frames ∧ 8 + (maxL + 11) + rm.locals ≤ R.locals) (hf : cells + rm.cells ≤ R.cells ∧ slots + rm.slots ≤ R.slots)
    (hn : As.length = n) (hst : st = As.reverse ++ .ref b :: rest) (hcat : (rest.map fun v => v.category).sum ≤ 8) (hd : decode cc pc = .ok (.invokespecial index, 3)) :
    zCk p G.1 e R s m args below meth c nL y (ws_ y bytes maxL none) rm cells slots pc 3 (.ref b :: As) st rest Φ := by
  intro H locs ls Pc Qc free hΦ hls hbl hpc hM
  exact va_runIN hz.1 hM ⟨va_cnB n hz.t (lw_meth q4) rfl rfl rfl (hz.n.1 _ q1 rfl) (hz.t _ q3) hy hR, hy1, hz.t _ q2⟩ ⟨hbl, hpc⟩ rfl hn hls hst (lv_room hcat) hd hf
end ZE
