/-! THE LAYER: worlds in blocks, contracts in one form, a row an instruction over blocks, locals and stack -/
set_option maxRecDepth 100000
def clG : List vw_C := [(RX0, TX0, 11), (RX1, TX1, 7), (RX2, TX2, 17), (RX3, TX3, 11), (RX4, TX4, 2), (RX5, TX5, 1), (RX6, TX6, 5), (RX7, TX7, 2), (RX8, TX8, 7), (RX9, TX9, 1), (RX10, TX10, 29), (RX11, TX11, 3), (RJ5, TJ5, 3), (RX13, TX13, 3), (RX14, TX14, 5), (RX15, TX15, 1), (RX16, TX16, 7), (RX17, TX17, 1), (RX18, TX18, 1), (RX19, TX19, 5), (RX20, TX20, 5), (RX21, TX21, 5), (RX22, TX22, 5), (RX23, TX23, 5), (RX24, TX24, 5), (RX25, TX25, 5), (RX26, TX26, 5), (RX28, TX28, 1), (RX28, TX28, 1), (RX29, TX29, 1), (RX30, TX30, 1)]
def tyG (T : Nat → ClassId) : List (ClassId × FieldType) := [(T 0, .int), (T 1, .byte), (T 2, .short), (T 3, .long), (T 4, .boolean), (T 5, .object "java/lang/Object"), (T 6, .object "java/lang/String"), (T 7, .object "LastHatch$Term"), (T 8, .object "LastHatch$Shelf")]
/-- words of the tables that don't ride in a contract's list -/
def zNok (w : Cond) : Bool := match w with
  | .fieldLinkNest .. => true
  | .methodLinkNest .. => true
  | .castable .. => true
  | .declares .. => true
  | .publicMethod .. => true
  | .unhidden .. => true
  | .arrayOver (.object _) => true
  | _ => false
def zIf : List MethodName := [⟨"LastHatch$Divers", "minutes", "(I)I"⟩, ⟨"LastHatch$Needs", "needs", "(I)I"⟩, ⟨"LastHatch$Takes", "takes", "(I)I"⟩, ⟨"LastHatch$Risks", "risks", "(I)I"⟩, ⟨"LastHatch$Tells", "tells", "(I)I"⟩]
def zN (U : State) : Prop := (∀ w ∈ lw_tbl, zNok w = true → va_Nw w U) ∧ ∀ x ∈ zIf, va_Nw (.declares x) U ∧ va_Nw (.interfaceMethod x.cls x.cls x.name x.desc) U
def zLen : List Nat := [3, 3, 1, 2, 1, 1, 3, 2, 3, 1, 1]
def zByt : List (List Int32) := [[119, 99, 112], [100, 109, 115], [109], [104, 110], [124], [38], [60, 61, 62], [43, 45], [42, 47, 37], [33], [40]]
def zRefs : List (String × Nat × String × Nat) := [("LastHatchModel", 24, "wcp", 0), ("LastHatchModel", 26, "dms", 1), ("LastHatchModel", 28, "m", 2), ("LastHatchModel", 30, "hn", 3), ("LastHatch$Laws", 31, "wcp", 0), ("LastHatch$Laws", 33, "dms", 1), ("LastHatch$Laws", 35, "m", 2), ("LastHatch$Laws", 37, "hn", 3), ("LastHatch$Reader", 52, "|", 4), ("LastHatch$Reader", 66, "&", 5), ("LastHatch$Reader", 71, "<=>", 6), ("LastHatch$Reader", 76, "+-", 7), ("LastHatch$Reader", 81, "*/%", 8), ("LastHatch$Reader", 89, "!", 9), ("LastHatch$Reader", 99, "(", 10)]
/-- what the old cells hold that the methods read: statics, an empty array, the strings' constants -/
def zOld (K : Nat → Nat) (A : Nat → Prop) (U : State) : Prop :=
  va_Z "java/util/ArrayList" "DEFAULTCAPACITY_EMPTY_ELEMENTDATA" "[Ljava/lang/Object;" (.ref (K 0)) A U U.heap ∧
  va_T (.object "java/lang/Object") (K 0) 0 (fun _ => .null) A U U.heap ∧
  va_Zq "java/lang/Throwable" "UNASSIGNED_STACK" "[Ljava/lang/StackTraceElement;" A U U.heap ∧
  va_Zq "java/lang/Throwable" "SUPPRESSED_SENTINEL" "Ljava/util/List;" A U U.heap ∧
  va_Z "java/lang/String" "COMPACT_STRINGS" "Z" (.int 1) A U U.heap ∧
  va_Zq "jdk/internal/util/Preconditions" "SIOOBE_FORMATTER" "Ljava/util/function/BiFunction;" A U U.heap ∧
  vk_S 11 zLen zByt (fun i => K (1 + i)) (fun i => K (12 + i)) A U U.heap ∧
  (∀ q ∈ zRefs, vk_R q.1 q.2.1 q.2.2.1 (K (1 + q.2.2.2)) U) ∧
  va_Mi "[Ljava/lang/Object;" (K 23) U ∧ va_Dc U
theorem zN_warm {s U : State} (hW : s.WarmedH U.vm) (h : zN s) : zN U := by
  refine ⟨fun w hw hk => ?_, fun x hx => ?_⟩
  · have hz := h.1 w hw hk
    clear hw
    unfold zNok at hk
    split at hk
    · exact va_Nw.warmF hW hz
    · exact va_Nw.warmM hW hz
    · exact va_Nw.warmC hW hz
    · exact va_Nw.warmD hW hz
    · exact va_tabs (A := #[]) rfl (rfl : (s.setVm U.vm).vm = U.vm) (by rw [Cond.publicMethod_setVm hW.alike]; exact hz)
    · exact va_tabs (A := #[]) rfl (rfl : (s.setVm U.vm).vm = U.vm) (by rw [Cond.unhidden_setVm hW.alike]; exact hz)
    · exact va_AO.moved hW.alike hz
    · cases hk
  · obtain ⟨h1, h2⟩ := h.2 x hx
    obtain ⟨r, meth, hn, -⟩ := Cond.declares_spec h1
    refine ⟨va_Nw.warmD hW h1, va_tabs (A := #[]) rfl (rfl : (s.setVm U.vm).vm = U.vm) ?_⟩
    rw [Cond.interfaceMethod_setVm hW.alike (r := r) hn]
    · exact h2
    · simp only [zIf, List.mem_cons, List.not_mem_nil, or_false] at hx
      rcases hx with rfl | rfl | rfl | rfl | rfl <;> exact ⟨by decide, by decide⟩
/-- what holds of the old cells stays, along a run that writes in A alone -/
theorem zOld_to {K : Nat → Nat} {A A1 : Nat → Prop} {s U : State} {H : Heap} (h : zOld K A s) (hk : ∀ q : Nat, q < s.heap.size → ¬ A q → H[q]? = s.heap[q]?) (hA : ∀ q, A1 q → A q) (hH : U.heap = H) (hW : s.WarmedH U.vm) : zOld K A1 U := by
  obtain ⟨h1, h2, h3, h4, h5, h6, h7, h8, h9, h10⟩ := h
  subst hH
  have e := hW.alike
  exact ⟨((h1.kept hk).narrow hA).moved e, ((h2.kept hk).narrow hA).moved e, ((h3.kept hk).narrow hA).moved e, ((h4.kept hk).narrow hA).moved e, ((h5.kept hk).narrow hA).moved e, ((h6.kept hk).narrow hA).moved e, ((h7.kept hk).narrow hA).moved e, fun q hq => (h8 q hq).warm hW, va_Mi.moved e h9, va_Dc.moved e h10⟩
theorem zOld_narrow {K : Nat → Nat} {A B : Nat → Prop} {U : State} (h : zOld K A U) (hAB : ∀ q, B q → A q) : zOld K B U := by
  obtain ⟨h1, h2, h3, h4, h5, h6, h7, h8, h9, h10⟩ := h
  exact ⟨h1.narrow hAB, h2.narrow hAB, h3.narrow hAB, h4.narrow hAB, h5.narrow hAB, h6.narrow hAB, h7.narrow hAB, h8, h9, h10⟩
