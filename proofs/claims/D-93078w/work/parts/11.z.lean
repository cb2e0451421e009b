set_option maxRecDepth 100000
/-! ## what is fixed for a run: launch, classes' numbers, array classes, old addresses -/
abbrev zG : Type := Launch × va_G × (Nat → ClassId) × (Nat → Nat)
section ZC
variable {p : Program} {e : Env} {R : Room} {s : State} {m : MethodId} {args : Array Value} {below : List Frame} {meth : Method} {c : Code} {cells slots nL : Nat} {Q : State → Prop} {cc : ByteArray} {own : String} {G : zG} {A : Nat → Prop}
/-- what holds all through a method's body -/
def zC (p : Program) (m : MethodId) (c : Code) (cc : ByteArray) (nL : Nat) (s : State) (args : Array Value) (own : String) (G : zG) (A : Nat → Prop) : Prop :=
  CallFix p m c cc nL s args lw_all own ∧ va_K G.2.1 clG (tyG G.2.2.1) s ∧ zN s ∧ zOld G.2.2.2 A s
theorem zC.x (h : zC p m c cc nL s args own G A) : p.tables.exec = Jvm.exec := h.1.1
theorem zC.b (h : zC p m c cc nL s args own G A) : c.code = cc := h.1.2.1
theorem zC.ml (h : zC p m c cc nL s args own G A) : c.maxLocals = nL := h.1.2.2.1
theorem zC.o (h : zC p m c cc nL s args own G A) : s.vm.findClass own = some m.cls := h.1.2.2.2.1
theorem zC.t (h : zC p m c cc nL s args own G A) : ∀ w ∈ lw_all, w.before args s = true := h.1.2.2.2.2
theorem zC.k (h : zC p m c cc nL s args own G A) : va_K G.2.1 clG (tyG G.2.2.1) s := h.2.1
theorem zC.n (h : zC p m c cc nL s args own G A) : zN s := h.2.2.1
theorem zC.old (h : zC p m c cc nL s args own G A) : zOld G.2.2.2 A s := h.2.2.2
/-- the machine at pc, with the listed locals and the stack, in any heap of a kind, comes to Q -/
def zW (p : Program) (l : Launch) (e : Env) (R : Room) (s : State) (m : MethodId) (args : Array Value) (below : List Frame) (meth : Method) (c : Code) (nL : Nat) (Q : State → Prop) (cells slots : Nat) (Φ : Heap → List Loc → Prop) (pc : Nat) (lv : List (Nat × Value)) (st : List Value) : Prop :=
  ∀ (H : Heap) (locs : List Loc) (ls : Array Slot), Φ H locs → lv_has ls nL lv → W p l e R s m args below meth c H locs cells slots Q (F0 m pc ls st)
/-- heaps that hold the blocks, changed in A alone -/
def zΦ (G : zG) (A : Nat → Prop) (s : State) (bs : List va_W) : Heap → List Loc → Prop := fun H locs => va_P G.2.1 clG bs.flatten H ∧ va_D A bs.flatten ∧ va_S A s.heap H locs
/-- the heap of the start, unchanged: for readers -/
def zΨ (s : State) : Heap → List Loc → Prop := fun H locs => H = s.heap ∧ locs = []
/-- what Φ keeps of the old cells -/
def zKp (A : Nat → Prop) (s : State) (Φ : Heap → List Loc → Prop) : Prop := ∀ H locs, Φ H locs → ∀ q : Nat, q < s.heap.size → ¬ A q → H[q]? = s.heap[q]?
theorem zKp.mt {bs : List va_W} : zKp A s (zΦ G A s bs) := fun _ _ h => h.2.2.2.1
theorem zKp.rd : zKp A s (zΨ s) := fun _ _ h q _ _ => by rw [h.1]
/-- an object's block, an array's -/
abbrev zO (a ci : Nat) (fs : List Value) : va_W := [(a, .inr (ci, fs))]
abbrev zI (c : ClassId) (a n : Nat) (f : Nat → Int32) : va_W := [(a, .inl (c, n, .inl f))]
abbrev zJ (c : ClassId) (a n : Nat) (f : Nat → Int64) : va_W := [(a, .inl (c, n, .inr (.inl f)))]
abbrev zQr (c : ClassId) (a n : Nat) (f : Nat → Option Nat) : va_W := [(a, .inl (c, n, .inr (.inr (.inr (.inr f)))))]
/-- a cell that Φ holds -/
def zAt (G : zG) (Φ : Heap → List Loc → Prop) (a : Nat) (x : va_E) : Prop := ∀ H locs, Φ H locs → va_at G.2.1 clG (a, x) H
theorem zAt.mt {bs : List va_W} {b : va_W} {a : Nat} {x : va_E} (i j : Nat) (hi : bs[i]? = some b) (hj : b[j]? = some (a, x)) : zAt G (zΦ G A s bs) a x := by
  intro H locs h
  have hm : (a, x) ∈ bs.flatten := List.mem_flatten.mpr ⟨b, List.mem_of_getElem? hi, List.mem_of_getElem? hj⟩
  obtain ⟨k, hk⟩ := List.getElem?_of_mem hm
  exact h.1 k _ hk
theorem zAt.mtm {bs : List va_W} {b : va_W} {a : Nat} {x : va_E} (i : Nat) (hi : bs[i]? = some b) (hj : (a, x) ∈ b) : zAt G (zΦ G A s bs) a x := by
  obtain ⟨j, hj⟩ := List.getElem?_of_mem hj
  exact zAt.mt i j hi hj
theorem zAt.rd {w : va_W} {a : Nat} {x : va_E} (hP : va_P G.2.1 clG w s.heap) (j : Nat) (hj : w[j]? = some (a, x)) : zAt G (zΨ s) a x := by
  intro H locs h
  rw [h.1]
  exact hP j _ hj
theorem zAt.rdm {w : va_W} {a : Nat} {x : va_E} (hP : va_P G.2.1 clG w s.heap) (hj : (a, x) ∈ w) : zAt G (zΨ s) a x := by
  obtain ⟨j, hj⟩ := List.getElem?_of_mem hj
  exact zAt.rd hP j hj
end ZC
section ZF
/-- blocks: one place of a block, as a place of the flat list -/
theorem fl_set {i j : Nat} {b : va_W} {q : Nat × va_E} : ∀ {bs : List va_W}, bs[i]? = some b → b[j]? = some q → ∃ k : Nat, bs.flatten[k]? = some q ∧ ∀ q' : Nat × va_E, bs.flatten.set k q' = (bs.set i (b.set j q')).flatten
  := by
  induction i with
  | zero =>
    intro bs h1 h2
    cases bs with
    | nil => cases h1
    | cons x l =>
      cases h1
      have hl := (List.getElem?_eq_some_iff.mp h2).1
      refine ⟨j, ?_, fun q' => ?_⟩
      · rw [List.flatten_cons, List.getElem?_append_left hl]; exact h2
      · rw [List.flatten_cons, List.set_append_left _ _ hl]; rfl
  | succ i ih =>
    intro bs h1 h2
    cases bs with
    | nil => cases h1
    | cons x l =>
      obtain ⟨k, k1, k2⟩ := ih (bs := l) h1 h2
      refine ⟨x.length + k, ?_, fun q' => ?_⟩
      · rw [List.flatten_cons, List.getElem?_append_right (by omega), Nat.add_sub_cancel_left]; exact k1
      · rw [List.flatten_cons, List.set_append_right _ _ (by omega), Nat.add_sub_cancel_left, k2 q']; rfl
theorem zD_iff {A : Nat → Prop} {ws : va_W} : va_D A ws ↔ (ws.map (·.1)).Nodup ∧ ∀ q ∈ ws, A q.1 := by
  constructor
  · intro h
    refine ⟨List.pairwise_iff_getElem.mpr fun i j hi hj hij e => ?_, fun q hq => ?_⟩
    · rw [List.length_map] at hi hj
      have := h.1 i j ws[i] ws[j] (List.getElem?_eq_getElem hi) (List.getElem?_eq_getElem hj) (by simpa using e)
      omega
    · obtain ⟨k, hk⟩ := List.getElem?_of_mem hq
      exact h.2 k q hk
  · intro ⟨h1, h2⟩
    refine ⟨fun i j p q hi hj e => ?_, fun k q hk => h2 q (List.mem_of_getElem? hk)⟩
    obtain ⟨hi', ei⟩ := List.getElem?_eq_some_iff.mp hi
    obtain ⟨hj', ej⟩ := List.getElem?_eq_some_iff.mp hj
    have h3 := List.pairwise_iff_getElem.mp h1
    rcases Nat.lt_trichotomy i j with hlt | heq | hgt
    · exact (h3 i j (by simpa using hi') (by simpa using hj') hlt (by simp [ei, ej, e])).elim
    · exact heq
    · exact (h3 j i (by simpa using hj') (by simpa using hi') hgt (by simp [ei, ej, e])).elim
theorem zP_iff {D : va_G} {cl : List vw_C} {ws : va_W} {H : Heap} : va_P D cl ws H ↔ ∀ q ∈ ws, va_at D cl q H :=
  ⟨fun h q hq => by obtain ⟨k, hk⟩ := List.getElem?_of_mem hq; exact h k q hk, fun h k q hk => h q (List.mem_of_getElem? hk)⟩
theorem zP_perm {D : va_G} {cl : List vw_C} {w w' : va_W} {H : Heap} (hp : w.Perm w') (h : va_P D cl w H) : va_P D cl w' H := zP_iff.mpr fun q hq => zP_iff.mp h q (hp.mem_iff.mpr hq)
theorem zD_perm {A : Nat → Prop} {w w' : va_W} (hp : w.Perm w') (h : va_D A w) : va_D A w' := by
  obtain ⟨h1, h2⟩ := zD_iff.mp h
  exact zD_iff.mpr ⟨(hp.map _).nodup_iff.mp h1, fun q hq => h2 q (hp.mem_iff.mpr hq)⟩
/-- the blocks at the places is, put in place of them, one by one; what is over goes to the end -/
def zplug : List va_W → List Nat → List va_W → List va_W
  | bs, [], cs => bs ++ cs
  | bs, i :: is, [] => zplug (bs.set i []) is []
  | bs, i :: is, c :: cs => zplug (bs.set i c) is cs
/-- .. taken away -/
def zcut : List va_W → List Nat → List va_W
  | bs, [] => bs
  | bs, i :: is => zcut (bs.set i []) is
theorem fl_perm {i : Nat} {b : va_W} : ∀ {bs : List va_W}, bs[i]? = some b → ∀ c : va_W, (bs.set i c).flatten.Perm (c ++ (bs.set i []).flatten) := by
  induction i with
  | zero =>
    intro bs h c
    cases bs with
    | nil => cases h
    | cons x l => exact List.Perm.refl _
  | succ i ih =>
    intro bs h c
    cases bs with
    | nil => cases h
    | cons x l =>
      have h1 := ih (bs := l) h c
      show (x ++ (l.set i c).flatten).Perm (c ++ (x ++ (l.set i []).flatten))
      exact (List.Perm.append_left x h1).trans (by rw [← List.append_assoc, ← List.append_assoc]; exact List.Perm.append_right _ List.perm_append_comm)
theorem fl_self {i : Nat} {b : va_W} {bs : List va_W} (h : bs[i]? = some b) : bs.flatten.Perm (b ++ (bs.set i []).flatten) := by
  have h1 := fl_perm h b
  have e : bs.set i b = bs := by
    apply List.ext_getElem?
    intro j
    by_cases hj : j = i
    · subst hj; rw [List.getElem?_set_self (List.getElem?_eq_some_iff.mp h).1, h]
    · rw [List.getElem?_set_ne (Ne.symm hj)]
  rwa [e] at h1
theorem zplug_perm : ∀ (is : List Nat) (bs cs : List va_W), (∀ i ∈ is, i < bs.length) → va_nd is = true → (zplug bs is cs).flatten.Perm (cs.flatten ++ (zcut bs is).flatten)
  | [], bs, cs, _, _ => by simp only [zplug, zcut, List.flatten_append]; exact List.perm_append_comm
  | i :: is, bs, [], hb, hn => by
    simp only [va_nd, Bool.and_eq_true, decide_eq_true_eq] at hn
    simp only [zplug, zcut]
    exact zplug_perm is (bs.set i []) [] (fun j hj => by rw [List.length_set]; exact hb j (List.mem_cons_of_mem _ hj)) hn.2
  | i :: is, bs, c :: cs, hb, hn => by
    simp only [va_nd, Bool.and_eq_true, decide_eq_true_eq] at hn
    simp only [zplug, zcut]
    refine (zplug_perm is (bs.set i c) cs (fun j hj => by rw [List.length_set]; exact hb j (List.mem_cons_of_mem _ hj)) hn.2).trans ?_
    have key : ∀ (is : List Nat) (bs : List va_W), i < bs.length → i ∉ is → (zcut (bs.set i c) is).flatten.Perm (c ++ (zcut (bs.set i []) is).flatten) := by
      intro is
      induction is with
      | nil =>
        intro bs hi _
        exact fl_perm (List.getElem?_eq_getElem hi) c
      | cons j is ih =>
        intro bs hi hni
        have hij : i ≠ j := fun e => hni (by rw [e]; exact List.mem_cons_self)
        simp only [zcut]
        rw [List.set_comm _ _ hij, List.set_comm _ _ hij]
        exact ih (bs.set j []) (by rw [List.length_set]; exact hi) (fun h => hni (List.mem_cons_of_mem _ h))
    refine (List.Perm.append_left _ (key is bs (hb i List.mem_cons_self) hn.1)).trans ?_
    show (cs.flatten ++ (c ++ _)).Perm ((c ++ cs.flatten) ++ _)
    rw [← List.append_assoc]
    exact List.Perm.append_right _ List.perm_append_comm
theorem zcut_perm : ∀ (is : List Nat) (bs cs : List va_W), is.map (fun i => bs[i]?) = cs.map some → va_nd is = true → bs.flatten.Perm (cs.flatten ++ (zcut bs is).flatten)
  | [], bs, cs, h, _ => by
    cases cs with
    | nil => exact List.Perm.refl _
    | cons c l => cases h
  | i :: is, bs, cs, h, hn => by
    simp only [va_nd, Bool.and_eq_true, decide_eq_true_eq] at hn
    cases cs with
    | nil => cases h
    | cons c cs =>
      simp only [List.map_cons, List.cons.injEq] at h
      have h2 : is.map (fun j => (bs.set i [])[j]?) = cs.map some := by
        rw [← h.2]
        refine List.map_congr_left fun j hj => ?_
        exact List.getElem?_set_ne (fun e => hn.1 (by rw [e]; exact hj))
      simp only [zcut]
      refine (fl_self h.1).trans ?_
      refine (List.Perm.append_left c (zcut_perm is (bs.set i []) cs h2 hn.2)).trans ?_
      show (c ++ (cs.flatten ++ _)).Perm ((c ++ cs.flatten) ++ _)
      rw [List.append_assoc]
theorem zmap_lt {is : List Nat} {bs cs : List va_W} (h : is.map (fun i => bs[i]?) = cs.map some) : ∀ i ∈ is, i < bs.length := by
  intro i hi
  have h1 : bs[i]? ∈ is.map (fun i => bs[i]?) := List.mem_map.mpr ⟨i, hi, rfl⟩
  rw [h] at h1
  obtain ⟨c, -, hc⟩ := List.mem_map.mp h1
  exact (List.getElem?_eq_some_iff.mp hc.symm).1
/-- behind a call: the callee's blocks in the places of what it got, the rest as it was -/
theorem zjoin {A0 : Nat → Prop} {D : va_G} {cl : List vw_C} {bs cbs bs1 : List va_W} {H H1 : Heap} {is : List Nat} (hP : va_P D cl bs.flatten H) (hD : va_D A0 bs.flatten) (hC : is.map (fun i => bs[i]?) = cbs.map some) (hn : va_nd is = true)
    (hk : ∀ q : Nat, q < H.size → ¬ va_A cbs.flatten H.size q → H1[q]? = H[q]?) (hF : ∀ q, va_A cbs.flatten H.size q → A0 q) (hP1 : va_P D cl bs1.flatten H1) (hD1 : va_D (va_A cbs.flatten H.size) bs1.flatten) : va_P D cl (zplug bs is bs1).flatten H1 ∧ va_D A0 (zplug bs is bs1).flatten := by
  have p1 := zplug_perm is bs bs1 (zmap_lt hC) hn
  have p2 := zcut_perm is bs cbs hC hn
  have hP2 := zP_perm p2 hP
  have hD2 := zD_perm p2 hD
  have apart : ∀ q ∈ (zcut bs is).flatten, q.1 < H.size ∧ ¬ va_A cbs.flatten H.size q.1 := by
    intro q hq
    have hl := (zP_iff.mp hP2 q (List.mem_append_right _ hq)).lt
    refine ⟨hl, fun h => ?_⟩
    rcases h with ⟨k, e, h⟩ | h
    · have h1 := (zD_iff.mp hD2).1
      rw [List.map_append] at h1
      exact (List.nodup_append.mp h1).2.2 _ (List.mem_map.mpr ⟨_, List.mem_of_getElem? h, rfl⟩) _ (List.mem_map.mpr ⟨q, hq, rfl⟩) rfl
    · omega
  refine ⟨zP_perm p1.symm (zP_iff.mpr fun q hq => ?_), zD_perm p1.symm (zD_iff.mpr ⟨?_, fun q hq => ?_⟩)⟩
  · rcases List.mem_append.mp hq with h | h
    · exact zP_iff.mp hP1 q h
    · exact (zP_iff.mp hP2 q (List.mem_append_right _ h)).kept (hk q.1 (apart q h).1 (apart q h).2)
  · rw [List.map_append]
    refine List.nodup_append.mpr ⟨(zD_iff.mp hD1).1, ?_, fun a ha b hb e => ?_⟩
    · have h1 := (zD_iff.mp hD2).1
      rw [List.map_append] at h1
      exact (List.nodup_append.mp h1).2.1
    · obtain ⟨q1, g1, rfl⟩ := List.mem_map.mp ha
      obtain ⟨q2, g2, rfl⟩ := List.mem_map.mp hb
      exact (apart q2 g2).2 (by rw [← e]; exact (zD_iff.mp hD1).2 q1 g1)
  · rcases List.mem_append.mp hq with h | h
    · exact hF _ ((zD_iff.mp hD1).2 q h)
    · exact (zD_iff.mp hD2).2 q (List.mem_append_right _ h)
theorem zfree {A0 : Nat → Prop} {bs cbs : List va_W} {H0 H : Heap} {locs : List Loc} {is : List Nat} (hD : va_D A0 bs.flatten) (hS : va_S A0 H0 H locs) (hA : ∀ q, H0.size ≤ q → A0 q) (hC : is.map (fun i => bs[i]?) = cbs.map some) (hn : va_nd is = true) : ∀ q, va_A cbs.flatten H.size q → A0 q := by
  intro q h
  rcases h with ⟨k, e, h⟩ | h
  · exact (zD_iff.mp (zD_perm (zcut_perm is bs cbs hC hn) hD)).2 (q, e) (List.mem_append_left _ (List.mem_of_getElem? h))
  · exact hA q (Nat.le_trans hS.1 h)
end ZF
