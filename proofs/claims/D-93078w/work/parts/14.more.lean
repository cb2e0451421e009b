/-! ROWS that know more: natural numbers, truth values, calls with a definite answer -/
/-- a truth value as an int -/
def zB (P : Prop) [Decidable P] : Int32 := if P then 1 else 0
theorem zB_t {P : Prop} [Decidable P] (h : P) : zB P = 1 := if_pos h
theorem zB_f {P : Prop} [Decidable P] (h : ¬ P) : zB P = 0 := if_neg h
theorem zB_eq0 {P : Prop} [Decidable P] : zB P = 0 ↔ ¬ P := by
  unfold zB
  by_cases h : P <;> simp [h]
theorem zB_nar {P : Prop} [Decidable P] : narrow .boolean (.int (zB P)) = .int (zB P) := by
  unfold zB
  by_cases h : P <;> simp only [h, if_true, if_false] <;> decide
theorem zB_fit {P : Prop} [Decidable P] : fits .boolean (.int (zB P)) = true := by
  unfold zB
  by_cases h : P <;> simp only [h, if_true, if_false] <;> decide
theorem nI_dec (n : Nat) : nI (n + 1) + Int32.ofInt (-1) = nI n := by
  rw [show Int32.ofInt (-1) = (-1 : Int32) by decide]
  exact pk_m1 n
theorem zP0 {D : va_G} {cl : List vw_C} {H : Heap} : va_P D cl [] H := fun k q hk => by cases hk
theorem zPc {G : zG} {Φ : Heap → List Loc → Prop} {a : Nat} {x : va_E} {w : va_W} {H : Heap} {locs : List Loc} (hr : zAt G Φ a x) (h : Φ H locs) (hw : va_P G.2.1 clG w H) : va_P G.2.1 clG ((a, x) :: w) H := fun k q hk => by
  cases k with
  | zero => cases hk; exact hr H locs h
  | succ k => exact hw k q hk
section ZX
variable {p : Program} {e : Env} {R : Room} {s : State} {m : MethodId} {args : Array Value} {below : List Frame} {meth : Method} {c : Code} {cells slots nL : Nat} {Q : State → Prop} {cc : ByteArray} {own : String} {G : zG} {A : Nat → Prop} {Φ : Heap → List Loc → Prop} {pc : Nat} {lv lv' : List (Nat × Value)} {st : List Value} {bs : List va_W}
theorem z_iaddN (hz : zC p m c cc nL s args own G A) {a b : Nat} {x y : Int32} (hx : x = nI a) (hy : y = nI b) (hd : decode cc pc = .ok (.iadd, 1)) (k : zW p G.1 e R s m args below meth c nL Q cells slots Φ (pc + 1) lv (.int (nI (a + b)) :: st)) : zW p G.1 e R s m args below meth c nL Q cells slots Φ pc lv (.int y :: .int x :: st) := by
  subst hx; subst hy
  refine z_iadd hz hd ?_
  rw [nI_add a b]
  exact k
theorem z_imulN (hz : zC p m c cc nL s args own G A) {a b : Nat} {x y : Int32} (hx : x = nI a) (hy : y = nI b) (hd : decode cc pc = .ok (.imul, 1)) (k : zW p G.1 e R s m args below meth c nL Q cells slots Φ (pc + 1) lv (.int (nI (a * b)) :: st)) : zW p G.1 e R s m args below meth c nL Q cells slots Φ pc lv (.int y :: .int x :: st) := by
  subst hx; subst hy
  refine z_imul hz hd ?_
  rw [pk_mul a b]
  exact k
theorem z_isubN (hz : zC p m c cc nL s args own G A) {a b : Nat} {x y : Int32} (hx : x = nI a) (hy : y = nI b) (hle : b ≤ a) (hd : decode cc pc = .ok (.isub, 1)) (k : zW p G.1 e R s m args below meth c nL Q cells slots Φ (pc + 1) lv (.int (nI (a - b)) :: st)) : zW p G.1 e R s m args below meth c nL Q cells slots Φ pc lv (.int y :: .int x :: st) := by
  subst hx; subst hy
  refine z_isub hz hd ?_
  rw [pk_sub hle]
  exact k
theorem nI_n0 {b : Nat} (h0 : 0 < b) (hb : b < 2 ^ 31) : ¬ nI b = 0 := nI_ne0 h0 hb
theorem z_idivN (hz : zC p m c cc nL s args own G A) {a b : Nat} {x y : Int32} (hx : x = nI a) (hy : y = nI b) (ha : a < 2 ^ 31) (h0 : 0 < b) (hb : b < 2 ^ 31) (hd : decode cc pc = .ok (.idiv, 1)) (k : zW p G.1 e R s m args below meth c nL Q cells slots Φ (pc + 1) lv (.int (nI (a / b)) :: st)) : zW p G.1 e R s m args below meth c nL Q cells slots Φ pc lv (.int y :: .int x :: st) := by
  subst hx; subst hy
  refine z_idiv hz hd (nI_n0 h0 hb) ?_
  rw [pk_div ha h0 hb]
  exact k
theorem z_iremN (hz : zC p m c cc nL s args own G A) {a b : Nat} {x y : Int32} (hx : x = nI a) (hy : y = nI b) (ha : a < 2 ^ 31) (h0 : 0 < b) (hb : b < 2 ^ 31) (hd : decode cc pc = .ok (.irem, 1)) (k : zW p G.1 e R s m args below meth c nL Q cells slots Φ (pc + 1) lv (.int (nI (a % b)) :: st)) : zW p G.1 e R s m args below meth c nL Q cells slots Φ pc lv (.int y :: .int x :: st) := by
  subst hx; subst hy
  refine z_irem hz hd (nI_n0 h0 hb) ?_
  rw [pk_rem ha h0 hb]
  exact k
theorem z_icmpN_eq (hz : zC p m c cc nL s args own G A) {a b : Nat} {x y : Int32} (hx : x = nI a) (hy : y = nI b) (ha : a < 2 ^ 31) (hb : b < 2 ^ 31) {off : Int} (tgt : Nat) (hd : decode cc pc = .ok (.if_icmp .eq off, 3)) (ht : (pc : Int) + off = (tgt : Int)) (kt : a = b → zW p G.1 e R s m args below meth c nL Q cells slots Φ tgt lv st) (kf : ¬ a = b → zW p G.1 e R s m args below meth c nL Q cells slots Φ (pc + 3) lv st) : zW p G.1 e R s m args below meth c nL Q cells slots Φ pc lv (.int y :: .int x :: st) := by
  subst hx; subst hy
  exact z_icmp_eq hz tgt hd ht (fun h => kt ((nI_eq ha hb).mp h)) (fun h => kf (fun g => h ((nI_eq ha hb).mpr g)))
theorem z_icmpN_eqT (hz : zC p m c cc nL s args own G A) {a b : Nat} {x y : Int32} (hx : x = nI a) (hy : y = nI b) (ha : a < 2 ^ 31) (hb : b < 2 ^ 31) {off : Int} (tgt : Nat) (hd : decode cc pc = .ok (.if_icmp .eq off, 3)) (ht : (pc : Int) + off = (tgt : Int)) (h : a = b) (kt : zW p G.1 e R s m args below meth c nL Q cells slots Φ tgt lv st) : zW p G.1 e R s m args below meth c nL Q cells slots Φ pc lv (.int y :: .int x :: st) := z_icmpN_eq hz hx hy ha hb tgt hd ht (fun _ => kt) (fun g => absurd h g)
theorem z_icmpN_eqF (hz : zC p m c cc nL s args own G A) {a b : Nat} {x y : Int32} (hx : x = nI a) (hy : y = nI b) (ha : a < 2 ^ 31) (hb : b < 2 ^ 31) {off : Int} (tgt : Nat) (hd : decode cc pc = .ok (.if_icmp .eq off, 3)) (ht : (pc : Int) + off = (tgt : Int)) (h : ¬ a = b) (kf : zW p G.1 e R s m args below meth c nL Q cells slots Φ (pc + 3) lv st) : zW p G.1 e R s m args below meth c nL Q cells slots Φ pc lv (.int y :: .int x :: st) := z_icmpN_eq hz hx hy ha hb tgt hd ht (fun g => absurd g h) (fun _ => kf)
theorem z_icmpN_ne (hz : zC p m c cc nL s args own G A) {a b : Nat} {x y : Int32} (hx : x = nI a) (hy : y = nI b) (ha : a < 2 ^ 31) (hb : b < 2 ^ 31) {off : Int} (tgt : Nat) (hd : decode cc pc = .ok (.if_icmp .ne off, 3)) (ht : (pc : Int) + off = (tgt : Int)) (kt : ¬ a = b → zW p G.1 e R s m args below meth c nL Q cells slots Φ tgt lv st) (kf : a = b → zW p G.1 e R s m args below meth c nL Q cells slots Φ (pc + 3) lv st) : zW p G.1 e R s m args below meth c nL Q cells slots Φ pc lv (.int y :: .int x :: st) := by
  subst hx; subst hy
  exact z_icmp_ne hz tgt hd ht (fun h => kt (fun g => h ((nI_eq ha hb).mpr g))) (fun h => kf ((nI_eq ha hb).mp h))
theorem z_icmpN_neT (hz : zC p m c cc nL s args own G A) {a b : Nat} {x y : Int32} (hx : x = nI a) (hy : y = nI b) (ha : a < 2 ^ 31) (hb : b < 2 ^ 31) {off : Int} (tgt : Nat) (hd : decode cc pc = .ok (.if_icmp .ne off, 3)) (ht : (pc : Int) + off = (tgt : Int)) (h : ¬ a = b) (kt : zW p G.1 e R s m args below meth c nL Q cells slots Φ tgt lv st) : zW p G.1 e R s m args below meth c nL Q cells slots Φ pc lv (.int y :: .int x :: st) := z_icmpN_ne hz hx hy ha hb tgt hd ht (fun _ => kt) (fun g => absurd g h)
theorem z_icmpN_neF (hz : zC p m c cc nL s args own G A) {a b : Nat} {x y : Int32} (hx : x = nI a) (hy : y = nI b) (ha : a < 2 ^ 31) (hb : b < 2 ^ 31) {off : Int} (tgt : Nat) (hd : decode cc pc = .ok (.if_icmp .ne off, 3)) (ht : (pc : Int) + off = (tgt : Int)) (h : a = b) (kf : zW p G.1 e R s m args below meth c nL Q cells slots Φ (pc + 3) lv st) : zW p G.1 e R s m args below meth c nL Q cells slots Φ pc lv (.int y :: .int x :: st) := z_icmpN_ne hz hx hy ha hb tgt hd ht (fun g => absurd h g) (fun _ => kf)
theorem z_icmpN_lt (hz : zC p m c cc nL s args own G A) {a b : Nat} {x y : Int32} (hx : x = nI a) (hy : y = nI b) (ha : a < 2 ^ 31) (hb : b < 2 ^ 31) {off : Int} (tgt : Nat) (hd : decode cc pc = .ok (.if_icmp .lt off, 3)) (ht : (pc : Int) + off = (tgt : Int)) (kt : a < b → zW p G.1 e R s m args below meth c nL Q cells slots Φ tgt lv st) (kf : ¬ a < b → zW p G.1 e R s m args below meth c nL Q cells slots Φ (pc + 3) lv st) : zW p G.1 e R s m args below meth c nL Q cells slots Φ pc lv (.int y :: .int x :: st) := by
  subst hx; subst hy
  exact z_icmp_lt hz tgt hd ht (fun h => kt ((nI_ltI ha hb).mp h)) (fun h => kf (fun g => h ((nI_ltI ha hb).mpr g)))
theorem z_icmpN_ltT (hz : zC p m c cc nL s args own G A) {a b : Nat} {x y : Int32} (hx : x = nI a) (hy : y = nI b) (ha : a < 2 ^ 31) (hb : b < 2 ^ 31) {off : Int} (tgt : Nat) (hd : decode cc pc = .ok (.if_icmp .lt off, 3)) (ht : (pc : Int) + off = (tgt : Int)) (h : a < b) (kt : zW p G.1 e R s m args below meth c nL Q cells slots Φ tgt lv st) : zW p G.1 e R s m args below meth c nL Q cells slots Φ pc lv (.int y :: .int x :: st) := z_icmpN_lt hz hx hy ha hb tgt hd ht (fun _ => kt) (fun g => absurd h g)
theorem z_icmpN_ltF (hz : zC p m c cc nL s args own G A) {a b : Nat} {x y : Int32} (hx : x = nI a) (hy : y = nI b) (ha : a < 2 ^ 31) (hb : b < 2 ^ 31) {off : Int} (tgt : Nat) (hd : decode cc pc = .ok (.if_icmp .lt off, 3)) (ht : (pc : Int) + off = (tgt : Int)) (h : ¬ a < b) (kf : zW p G.1 e R s m args below meth c nL Q cells slots Φ (pc + 3) lv st) : zW p G.1 e R s m args below meth c nL Q cells slots Φ pc lv (.int y :: .int x :: st) := z_icmpN_lt hz hx hy ha hb tgt hd ht (fun g => absurd g h) (fun _ => kf)
theorem z_icmpN_ge (hz : zC p m c cc nL s args own G A) {a b : Nat} {x y : Int32} (hx : x = nI a) (hy : y = nI b) (ha : a < 2 ^ 31) (hb : b < 2 ^ 31) {off : Int} (tgt : Nat) (hd : decode cc pc = .ok (.if_icmp .ge off, 3)) (ht : (pc : Int) + off = (tgt : Int)) (kt : ¬ a < b → zW p G.1 e R s m args below meth c nL Q cells slots Φ tgt lv st) (kf : a < b → zW p G.1 e R s m args below meth c nL Q cells slots Φ (pc + 3) lv st) : zW p G.1 e R s m args below meth c nL Q cells slots Φ pc lv (.int y :: .int x :: st) := by
  subst hx; subst hy
  exact z_icmp_ge hz tgt hd ht (fun h => kt (Nat.not_lt.mpr ((nI_leI hb ha).mp h))) (fun h => kf (Nat.lt_of_not_le (fun g => h ((nI_leI hb ha).mpr g))))
theorem z_icmpN_geT (hz : zC p m c cc nL s args own G A) {a b : Nat} {x y : Int32} (hx : x = nI a) (hy : y = nI b) (ha : a < 2 ^ 31) (hb : b < 2 ^ 31) {off : Int} (tgt : Nat) (hd : decode cc pc = .ok (.if_icmp .ge off, 3)) (ht : (pc : Int) + off = (tgt : Int)) (h : ¬ a < b) (kt : zW p G.1 e R s m args below meth c nL Q cells slots Φ tgt lv st) : zW p G.1 e R s m args below meth c nL Q cells slots Φ pc lv (.int y :: .int x :: st) := z_icmpN_ge hz hx hy ha hb tgt hd ht (fun _ => kt) (fun g => absurd g h)
theorem z_icmpN_geF (hz : zC p m c cc nL s args own G A) {a b : Nat} {x y : Int32} (hx : x = nI a) (hy : y = nI b) (ha : a < 2 ^ 31) (hb : b < 2 ^ 31) {off : Int} (tgt : Nat) (hd : decode cc pc = .ok (.if_icmp .ge off, 3)) (ht : (pc : Int) + off = (tgt : Int)) (h : a < b) (kf : zW p G.1 e R s m args below meth c nL Q cells slots Φ (pc + 3) lv st) : zW p G.1 e R s m args below meth c nL Q cells slots Φ pc lv (.int y :: .int x :: st) := z_icmpN_ge hz hx hy ha hb tgt hd ht (fun g => absurd h g) (fun _ => kf)
theorem z_icmpN_gt (hz : zC p m c cc nL s args own G A) {a b : Nat} {x y : Int32} (hx : x = nI a) (hy : y = nI b) (ha : a < 2 ^ 31) (hb : b < 2 ^ 31) {off : Int} (tgt : Nat) (hd : decode cc pc = .ok (.if_icmp .gt off, 3)) (ht : (pc : Int) + off = (tgt : Int)) (kt : b < a → zW p G.1 e R s m args below meth c nL Q cells slots Φ tgt lv st) (kf : ¬ b < a → zW p G.1 e R s m args below meth c nL Q cells slots Φ (pc + 3) lv st) : zW p G.1 e R s m args below meth c nL Q cells slots Φ pc lv (.int y :: .int x :: st) := by
  subst hx; subst hy
  exact z_icmp_gt hz tgt hd ht (fun h => kt ((nI_ltI hb ha).mp h)) (fun h => kf (fun g => h ((nI_ltI hb ha).mpr g)))
theorem z_icmpN_gtT (hz : zC p m c cc nL s args own G A) {a b : Nat} {x y : Int32} (hx : x = nI a) (hy : y = nI b) (ha : a < 2 ^ 31) (hb : b < 2 ^ 31) {off : Int} (tgt : Nat) (hd : decode cc pc = .ok (.if_icmp .gt off, 3)) (ht : (pc : Int) + off = (tgt : Int)) (h : b < a) (kt : zW p G.1 e R s m args below meth c nL Q cells slots Φ tgt lv st) : zW p G.1 e R s m args below meth c nL Q cells slots Φ pc lv (.int y :: .int x :: st) := z_icmpN_gt hz hx hy ha hb tgt hd ht (fun _ => kt) (fun g => absurd h g)
theorem z_icmpN_gtF (hz : zC p m c cc nL s args own G A) {a b : Nat} {x y : Int32} (hx : x = nI a) (hy : y = nI b) (ha : a < 2 ^ 31) (hb : b < 2 ^ 31) {off : Int} (tgt : Nat) (hd : decode cc pc = .ok (.if_icmp .gt off, 3)) (ht : (pc : Int) + off = (tgt : Int)) (h : ¬ b < a) (kf : zW p G.1 e R s m args below meth c nL Q cells slots Φ (pc + 3) lv st) : zW p G.1 e R s m args below meth c nL Q cells slots Φ pc lv (.int y :: .int x :: st) := z_icmpN_gt hz hx hy ha hb tgt hd ht (fun g => absurd g h) (fun _ => kf)
theorem z_icmpN_le (hz : zC p m c cc nL s args own G A) {a b : Nat} {x y : Int32} (hx : x = nI a) (hy : y = nI b) (ha : a < 2 ^ 31) (hb : b < 2 ^ 31) {off : Int} (tgt : Nat) (hd : decode cc pc = .ok (.if_icmp .le off, 3)) (ht : (pc : Int) + off = (tgt : Int)) (kt : ¬ b < a → zW p G.1 e R s m args below meth c nL Q cells slots Φ tgt lv st) (kf : b < a → zW p G.1 e R s m args below meth c nL Q cells slots Φ (pc + 3) lv st) : zW p G.1 e R s m args below meth c nL Q cells slots Φ pc lv (.int y :: .int x :: st) := by
  subst hx; subst hy
  exact z_icmp_le hz tgt hd ht (fun h => kt (Nat.not_lt.mpr ((nI_leI ha hb).mp h))) (fun h => kf (Nat.lt_of_not_le (fun g => h ((nI_leI ha hb).mpr g))))
theorem z_icmpN_leT (hz : zC p m c cc nL s args own G A) {a b : Nat} {x y : Int32} (hx : x = nI a) (hy : y = nI b) (ha : a < 2 ^ 31) (hb : b < 2 ^ 31) {off : Int} (tgt : Nat) (hd : decode cc pc = .ok (.if_icmp .le off, 3)) (ht : (pc : Int) + off = (tgt : Int)) (h : ¬ b < a) (kt : zW p G.1 e R s m args below meth c nL Q cells slots Φ tgt lv st) : zW p G.1 e R s m args below meth c nL Q cells slots Φ pc lv (.int y :: .int x :: st) := z_icmpN_le hz hx hy ha hb tgt hd ht (fun _ => kt) (fun g => absurd g h)
theorem z_icmpN_leF (hz : zC p m c cc nL s args own G A) {a b : Nat} {x y : Int32} (hx : x = nI a) (hy : y = nI b) (ha : a < 2 ^ 31) (hb : b < 2 ^ 31) {off : Int} (tgt : Nat) (hd : decode cc pc = .ok (.if_icmp .le off, 3)) (ht : (pc : Int) + off = (tgt : Int)) (h : b < a) (kf : zW p G.1 e R s m args below meth c nL Q cells slots Φ (pc + 3) lv st) : zW p G.1 e R s m args below meth c nL Q cells slots Φ pc lv (.int y :: .int x :: st) := z_icmpN_le hz hx hy ha hb tgt hd ht (fun g => absurd h g) (fun _ => kf)
theorem z_ifB_eq (hz : zC p m c cc nL s args own G A) {P : Prop} [Decidable P] {off : Int} (tgt : Nat) (hd : decode cc pc = .ok (.ifCond .eq off, 3)) (ht : (pc : Int) + off = (tgt : Int)) (kt : ¬ P → zW p G.1 e R s m args below meth c nL Q cells slots Φ tgt lv st) (kf : P → zW p G.1 e R s m args below meth c nL Q cells slots Φ (pc + 3) lv st) : zW p G.1 e R s m args below meth c nL Q cells slots Φ pc lv (.int (zB P) :: st) := z_if_eq hz tgt hd ht (fun h => kt (zB_eq0.mp h)) (fun h => kf (Classical.not_not.mp (fun g => h (zB_eq0.mpr g))))
theorem z_ifB_eqT (hz : zC p m c cc nL s args own G A) {P : Prop} [Decidable P] {off : Int} (tgt : Nat) (hd : decode cc pc = .ok (.ifCond .eq off, 3)) (ht : (pc : Int) + off = (tgt : Int)) (h : ¬ P) (kt : zW p G.1 e R s m args below meth c nL Q cells slots Φ tgt lv st) : zW p G.1 e R s m args below meth c nL Q cells slots Φ pc lv (.int (zB P) :: st) := z_ifB_eq hz tgt hd ht (fun _ => kt) (fun g => absurd g h)
theorem z_ifB_eqF (hz : zC p m c cc nL s args own G A) {P : Prop} [Decidable P] {off : Int} (tgt : Nat) (hd : decode cc pc = .ok (.ifCond .eq off, 3)) (ht : (pc : Int) + off = (tgt : Int)) (h : P) (kf : zW p G.1 e R s m args below meth c nL Q cells slots Φ (pc + 3) lv st) : zW p G.1 e R s m args below meth c nL Q cells slots Φ pc lv (.int (zB P) :: st) := z_ifB_eq hz tgt hd ht (fun g => absurd h g) (fun _ => kf)
theorem z_ifB_ne (hz : zC p m c cc nL s args own G A) {P : Prop} [Decidable P] {off : Int} (tgt : Nat) (hd : decode cc pc = .ok (.ifCond .ne off, 3)) (ht : (pc : Int) + off = (tgt : Int)) (kt : P → zW p G.1 e R s m args below meth c nL Q cells slots Φ tgt lv st) (kf : ¬ P → zW p G.1 e R s m args below meth c nL Q cells slots Φ (pc + 3) lv st) : zW p G.1 e R s m args below meth c nL Q cells slots Φ pc lv (.int (zB P) :: st) := z_if_ne hz tgt hd ht (fun h => kt (Classical.not_not.mp (fun g => h (zB_eq0.mpr g)))) (fun h => kf (zB_eq0.mp h))
theorem z_ifB_neT (hz : zC p m c cc nL s args own G A) {P : Prop} [Decidable P] {off : Int} (tgt : Nat) (hd : decode cc pc = .ok (.ifCond .ne off, 3)) (ht : (pc : Int) + off = (tgt : Int)) (h : P) (kt : zW p G.1 e R s m args below meth c nL Q cells slots Φ tgt lv st) : zW p G.1 e R s m args below meth c nL Q cells slots Φ pc lv (.int (zB P) :: st) := z_ifB_ne hz tgt hd ht (fun _ => kt) (fun g => absurd h g)
theorem z_ifB_neF (hz : zC p m c cc nL s args own G A) {P : Prop} [Decidable P] {off : Int} (tgt : Nat) (hd : decode cc pc = .ok (.ifCond .ne off, 3)) (ht : (pc : Int) + off = (tgt : Int)) (h : ¬ P) (kf : zW p G.1 e R s m args below meth c nL Q cells slots Φ (pc + 3) lv st) : zW p G.1 e R s m args below meth c nL Q cells slots Φ pc lv (.int (zB P) :: st) := z_ifB_ne hz tgt hd ht (fun g => absurd g h) (fun _ => kf)
theorem nI_z {a : Nat} (ha : a < 2 ^ 31) : nI a = 0 ↔ a = 0 := by
  rw [show (0 : Int32) = nI 0 by decide]
  exact nI_eq ha (by omega)
theorem nI_zp {a : Nat} (ha : a < 2 ^ 31) : 0 < nI a ↔ ¬ a = 0 := by
  rw [show (0 : Int32) = nI 0 by decide, nI_ltI (by omega) ha]
  omega
theorem nIltc {j k : Nat} {x : Int32} (hx : x = nI k) (hj : j < 2 ^ 31) (hk : k < 2 ^ 31) : (nI j < x) = (j < k) := propext (by rw [hx]; exact nI_ltI hj hk)
theorem nIeqc {j k : Nat} {x : Int32} (hx : x = nI k) (hj : j < 2 ^ 31) (hk : k < 2 ^ 31) : (nI j = x) = (j = k) := propext (by rw [hx]; exact nI_eq hj hk)
theorem z_ifN_eq (hz : zC p m c cc nL s args own G A) {a : Nat} {x : Int32} (hx : x = nI a) (ha : a < 2 ^ 31) {off : Int} (tgt : Nat) (hd : decode cc pc = .ok (.ifCond .eq off, 3)) (ht : (pc : Int) + off = (tgt : Int)) (kt : a = 0 → zW p G.1 e R s m args below meth c nL Q cells slots Φ tgt lv st) (kf : ¬ a = 0 → zW p G.1 e R s m args below meth c nL Q cells slots Φ (pc + 3) lv st) : zW p G.1 e R s m args below meth c nL Q cells slots Φ pc lv (.int x :: st) := by
  subst hx
  exact z_if_eq hz tgt hd ht (fun h => kt ((nI_z ha).mp h)) (fun h => kf (fun g => h ((nI_z ha).mpr g)))
theorem z_ifN_eqT (hz : zC p m c cc nL s args own G A) {a : Nat} {x : Int32} (hx : x = nI a) (ha : a < 2 ^ 31) {off : Int} (tgt : Nat) (hd : decode cc pc = .ok (.ifCond .eq off, 3)) (ht : (pc : Int) + off = (tgt : Int)) (h : a = 0) (kt : zW p G.1 e R s m args below meth c nL Q cells slots Φ tgt lv st) : zW p G.1 e R s m args below meth c nL Q cells slots Φ pc lv (.int x :: st) := z_ifN_eq hz hx ha tgt hd ht (fun _ => kt) (fun g => absurd h g)
theorem z_ifN_eqF (hz : zC p m c cc nL s args own G A) {a : Nat} {x : Int32} (hx : x = nI a) (ha : a < 2 ^ 31) {off : Int} (tgt : Nat) (hd : decode cc pc = .ok (.ifCond .eq off, 3)) (ht : (pc : Int) + off = (tgt : Int)) (h : ¬ a = 0) (kf : zW p G.1 e R s m args below meth c nL Q cells slots Φ (pc + 3) lv st) : zW p G.1 e R s m args below meth c nL Q cells slots Φ pc lv (.int x :: st) := z_ifN_eq hz hx ha tgt hd ht (fun g => absurd g h) (fun _ => kf)
theorem z_ifN_ne (hz : zC p m c cc nL s args own G A) {a : Nat} {x : Int32} (hx : x = nI a) (ha : a < 2 ^ 31) {off : Int} (tgt : Nat) (hd : decode cc pc = .ok (.ifCond .ne off, 3)) (ht : (pc : Int) + off = (tgt : Int)) (kt : ¬ a = 0 → zW p G.1 e R s m args below meth c nL Q cells slots Φ tgt lv st) (kf : a = 0 → zW p G.1 e R s m args below meth c nL Q cells slots Φ (pc + 3) lv st) : zW p G.1 e R s m args below meth c nL Q cells slots Φ pc lv (.int x :: st) := by
  subst hx
  exact z_if_ne hz tgt hd ht (fun h => kt (fun g => h ((nI_z ha).mpr g))) (fun h => kf ((nI_z ha).mp h))
theorem z_ifN_neT (hz : zC p m c cc nL s args own G A) {a : Nat} {x : Int32} (hx : x = nI a) (ha : a < 2 ^ 31) {off : Int} (tgt : Nat) (hd : decode cc pc = .ok (.ifCond .ne off, 3)) (ht : (pc : Int) + off = (tgt : Int)) (h : ¬ a = 0) (kt : zW p G.1 e R s m args below meth c nL Q cells slots Φ tgt lv st) : zW p G.1 e R s m args below meth c nL Q cells slots Φ pc lv (.int x :: st) := z_ifN_ne hz hx ha tgt hd ht (fun _ => kt) (fun g => absurd g h)
theorem z_ifN_neF (hz : zC p m c cc nL s args own G A) {a : Nat} {x : Int32} (hx : x = nI a) (ha : a < 2 ^ 31) {off : Int} (tgt : Nat) (hd : decode cc pc = .ok (.ifCond .ne off, 3)) (ht : (pc : Int) + off = (tgt : Int)) (h : a = 0) (kf : zW p G.1 e R s m args below meth c nL Q cells slots Φ (pc + 3) lv st) : zW p G.1 e R s m args below meth c nL Q cells slots Φ pc lv (.int x :: st) := z_ifN_ne hz hx ha tgt hd ht (fun g => absurd h g) (fun _ => kf)
theorem z_ifN_gt (hz : zC p m c cc nL s args own G A) {a : Nat} {x : Int32} (hx : x = nI a) (ha : a < 2 ^ 31) {off : Int} (tgt : Nat) (hd : decode cc pc = .ok (.ifCond .gt off, 3)) (ht : (pc : Int) + off = (tgt : Int)) (kt : ¬ a = 0 → zW p G.1 e R s m args below meth c nL Q cells slots Φ tgt lv st) (kf : a = 0 → zW p G.1 e R s m args below meth c nL Q cells slots Φ (pc + 3) lv st) : zW p G.1 e R s m args below meth c nL Q cells slots Φ pc lv (.int x :: st) := by
  subst hx
  exact z_if_gt hz tgt hd ht (fun h => kt (fun g => (nI_zp ha).mp h g)) (fun h => kf (Classical.not_not.mp (fun g => h ((nI_zp ha).mpr g))))
theorem z_ifN_gtT (hz : zC p m c cc nL s args own G A) {a : Nat} {x : Int32} (hx : x = nI a) (ha : a < 2 ^ 31) {off : Int} (tgt : Nat) (hd : decode cc pc = .ok (.ifCond .gt off, 3)) (ht : (pc : Int) + off = (tgt : Int)) (h : ¬ a = 0) (kt : zW p G.1 e R s m args below meth c nL Q cells slots Φ tgt lv st) : zW p G.1 e R s m args below meth c nL Q cells slots Φ pc lv (.int x :: st) := z_ifN_gt hz hx ha tgt hd ht (fun _ => kt) (fun g => absurd g h)
theorem z_ifN_gtF (hz : zC p m c cc nL s args own G A) {a : Nat} {x : Int32} (hx : x = nI a) (ha : a < 2 ^ 31) {off : Int} (tgt : Nat) (hd : decode cc pc = .ok (.ifCond .gt off, 3)) (ht : (pc : Int) + off = (tgt : Int)) (h : a = 0) (kf : zW p G.1 e R s m args below meth c nL Q cells slots Φ (pc + 3) lv st) : zW p G.1 e R s m args below meth c nL Q cells slots Φ pc lv (.int x :: st) := z_ifN_gt hz hx ha tgt hd ht (fun g => absurd h g) (fun _ => kf)
theorem z_ifN_le (hz : zC p m c cc nL s args own G A) {a : Nat} {x : Int32} (hx : x = nI a) (ha : a < 2 ^ 31) {off : Int} (tgt : Nat) (hd : decode cc pc = .ok (.ifCond .le off, 3)) (ht : (pc : Int) + off = (tgt : Int)) (kt : a = 0 → zW p G.1 e R s m args below meth c nL Q cells slots Φ tgt lv st) (kf : ¬ a = 0 → zW p G.1 e R s m args below meth c nL Q cells slots Φ (pc + 3) lv st) : zW p G.1 e R s m args below meth c nL Q cells slots Φ pc lv (.int x :: st) := by
  subst hx
  exact z_if_le hz tgt hd ht (fun h => kt (Classical.not_not.mp (fun g => Int32.not_le.mpr ((nI_zp ha).mpr g) h))) (fun h => kf ((nI_zp ha).mp (Int32.not_le.mp h)))
theorem z_ifN_leT (hz : zC p m c cc nL s args own G A) {a : Nat} {x : Int32} (hx : x = nI a) (ha : a < 2 ^ 31) {off : Int} (tgt : Nat) (hd : decode cc pc = .ok (.ifCond .le off, 3)) (ht : (pc : Int) + off = (tgt : Int)) (h : a = 0) (kt : zW p G.1 e R s m args below meth c nL Q cells slots Φ tgt lv st) : zW p G.1 e R s m args below meth c nL Q cells slots Φ pc lv (.int x :: st) := z_ifN_le hz hx ha tgt hd ht (fun _ => kt) (fun g => absurd h g)
theorem z_ifN_leF (hz : zC p m c cc nL s args own G A) {a : Nat} {x : Int32} (hx : x = nI a) (ha : a < 2 ^ 31) {off : Int} (tgt : Nat) (hd : decode cc pc = .ok (.ifCond .le off, 3)) (ht : (pc : Int) + off = (tgt : Int)) (h : ¬ a = 0) (kf : zW p G.1 e R s m args below meth c nL Q cells slots Φ (pc + 3) lv st) : zW p G.1 e R s m args below meth c nL Q cells slots Φ pc lv (.int x :: st) := z_ifN_le hz hx ha tgt hd ht (fun g => absurd g h) (fun _ => kf)
/-- a call of a reader with a definite answer -/
theorem z_callRD (hz : zC p m c cc nL s args own G A) (hkp : zKp A s Φ) {y : MethodName} {ws : List Cond} {rm : Room} {av rest st2 : List Value} {w : va_W} {len : Nat} {v0 : Option Value}
    (hk : zCk p G.1 e R s m args below meth c nL y ws rm cells slots pc len av st rest Φ) (hM : zRd G y ws rm av w (fun v => v = v0)) (hw : ∀ H locs, Φ H locs → va_P G.2.1 clG w H) (hs : v0.toList ++ rest = st2)
    (kk : zW p G.1 e R s m args below meth c nL Q (cells + rm.cells) (slots + rm.slots) Φ (pc + len) lv st2) : zW p G.1 e R s m args below meth c nL Q cells slots Φ pc lv st :=
  z_callR hz hkp hk hM hw (fun v hv => by rw [hv, hs]; exact kk)
/-- a call with a definite answer and definite blocks -/
theorem z_callD (hz : zC p m c cc nL s args own G A) (hA : ∀ q, s.heap.size ≤ q → A q) {y : MethodName} {ws : List Cond} {rm : Room} {av rest st2 : List Value} {cbs cbs2 bs2 : List va_W} {len : Nat} {v0 : Option Value}
    (hk : zCk p G.1 e R s m args below meth c nL y ws rm cells slots pc len av st rest (zΦ G A s bs)) (hM : zMet G y ws rm av cbs (fun v b => v = v0 ∧ b = cbs2)) (is : List Nat) (hC : is.map (fun i => bs[i]?) = cbs.map some) (hn : va_nd is = true) (hb : zplug bs is cbs2 = bs2) (hs : v0.toList ++ rest = st2)
    (kk : zW p G.1 e R s m args below meth c nL Q (cells + rm.cells) (slots + rm.slots) (zΦ G A s bs2) (pc + len) lv st2) : zW p G.1 e R s m args below meth c nL Q cells slots (zΦ G A s bs) pc lv st :=
  z_call hz hA hk hM is hC hn (fun v b hv => by obtain ⟨h1, h2⟩ := hv; rw [h1, h2, hb, hs]; exact kk)
/-- a call whose answer is definite, and whose blocks are but for one array's contents -/
theorem z_callE (hz : zC p m c cc nL s args own G A) (hA : ∀ q, s.heap.size ≤ q → A q) {y : MethodName} {ws : List Cond} {rm : Room} {av rest st2 : List Value} {cbs : List va_W} {cbs2 bs2 : (Nat → Int32) → List va_W} {len : Nat} {v0 : Option Value}
    (hk : zCk p G.1 e R s m args below meth c nL y ws rm cells slots pc len av st rest (zΦ G A s bs)) (hM : zMet G y ws rm av cbs (fun v b => v = v0 ∧ ∃ f : Nat → Int32, b = cbs2 f)) (is : List Nat) (hC : is.map (fun i => bs[i]?) = cbs.map some) (hn : va_nd is = true) (hb : ∀ f, zplug bs is (cbs2 f) = bs2 f) (hs : v0.toList ++ rest = st2)
    (kk : ∀ f : Nat → Int32, zW p G.1 e R s m args below meth c nL Q (cells + rm.cells) (slots + rm.slots) (zΦ G A s (bs2 f)) (pc + len) lv st2) : zW p G.1 e R s m args below meth c nL Q cells slots (zΦ G A s bs) pc lv st :=
  z_call hz hA hk hM is hC hn (fun v b hv => by obtain ⟨h1, f, h2⟩ := hv; rw [h1, h2, hb, hs]; exact kk f)
/-- other words for an array's contents within its length -/
theorem va_at_arr {D : va_G} {cl : List vw_C} {a n : Nat} {cA : ClassId} {f g : Nat → Int32} {H : Heap} (h : ∀ j, j < n → f j = g j) (h1 : va_at D cl (a, .inl (cA, n, .inl f)) H) : va_at D cl (a, .inl (cA, n, .inl g)) H := by
  have e : vp_cell cA (n, .inl f) = vp_cell cA (n, .inl g) := by
    rw [vp_cell_i, vp_cell_i]
    unfold arrV
    congr 1
    apply Array.ext
    · simp
    · intro i h1 h2
      simp at h1 ⊢
      rw [h i h1]
  show H[a]? = some _
  rw [← e]
  exact h1
theorem z_arr {a n : Nat} {cA : ClassId} {f g : Nat → Int32} (i : Nat) (hi : bs[i]? = some [(a, .inl (cA, n, .inl f))]) (h : ∀ j, j < n → f j = g j) (kk : zW p G.1 e R s m args below meth c nL Q cells slots (zΦ G A s (bs.set i [(a, .inl (cA, n, .inl g))])) pc lv st) : zW p G.1 e R s m args below meth c nL Q cells slots (zΦ G A s bs) pc lv st := fun H locs ls hΦ hl => by
  obtain ⟨hP, hD, hS⟩ := hΦ
  have p1 := fl_self hi
  have p2 := fl_perm hi [(a, .inl (cA, n, .inl g))]
  refine kk H locs ls ⟨zP_perm p2.symm (zP_iff.mpr fun q hq => ?_), zD_perm p2.symm (zD_iff.mpr ?_), hS⟩ hl
  · rcases List.mem_append.mp hq with h9 | h9
    · rw [List.mem_singleton.mp h9]
      exact va_at_arr h (zP_iff.mp (zP_perm p1 hP) _ (List.mem_append_left _ List.mem_cons_self))
    · exact zP_iff.mp (zP_perm p1 hP) q (List.mem_append_right _ h9)
  · obtain ⟨h1, h2⟩ := zD_iff.mp (zD_perm p1 hD)
    refine ⟨h1, fun q hq => ?_⟩
    rcases List.mem_append.mp hq with h9 | h9
    · rw [List.mem_singleton.mp h9]
      exact h2 (a, .inl (cA, n, .inl f)) (List.mem_append_left _ List.mem_cons_self)
    · exact h2 q (List.mem_append_right _ h9)
end ZX
def minI (x y : Int32) : Int32 := if y < x then y else x
def maxI (x y : Int32) : Int32 := if x < y then y else x
def absI (x : Int32) : Int32 := if 0 ≤ x then x else 0 - x
def maxL (x y : Int64) : Int64 := if y < x then x else y
section ZMath
variable {p : Program} {e : Env} {R : Room} {s : State} {m : MethodId} {args : Array Value} {below : List Frame} {meth : Method} {c : Code} {cells slots nL : Nat} {Q : State → Prop} {cc : ByteArray} {own : String} {G : zG} {A : Nat → Prop} {Φ : Heap → List Loc → Prop} {pc : Nat} {lv lv' : List (Nat × Value)} {st : List Value}
theorem z_mmax (hz : zC p m c cc nL s args own G A) {index : Nat} {x y : Int32} (hlink : Cond.methodLink own index ⟨"java/lang/Math", "max", "(II)I"⟩ ∈ lw_all) (hf : 1 ≤ R.frames) (hl9 : (st.map fun v => v.category).sum + 13 ≤ R.locals) (hc9 : cells ≤ R.cells ∧ slots ≤ R.slots) (hd : decode cc pc = .ok (.invokestatic index, 3)) (kk : zW p G.1 e R s m args below meth c nL Q cells slots Φ (pc + 3) lv (.int (maxI x y) :: st)) : zW p G.1 e R s m args below meth c nL Q cells slots Φ pc lv (.int y :: .int x :: st) := fun H locs ls hΦ hl => va_mmax hz.x hz.b (by rw [hz.ml]; exact hl.1.symm) hz.o (hz.t _ hlink) (hz.t _ q580) (hz.t _ q98) (hz.t _ q581) hf hl9 hc9.1 hc9.2 hd (kk H locs ls hΦ hl)
theorem z_mmin (hz : zC p m c cc nL s args own G A) {index : Nat} {x y : Int32} (hlink : Cond.methodLink own index ⟨"java/lang/Math", "min", "(II)I"⟩ ∈ lw_all) (hf : 1 ≤ R.frames) (hl9 : (st.map fun v => v.category).sum + 13 ≤ R.locals) (hc9 : cells ≤ R.cells ∧ slots ≤ R.slots) (hd : decode cc pc = .ok (.invokestatic index, 3)) (kk : zW p G.1 e R s m args below meth c nL Q cells slots Φ (pc + 3) lv (.int (minI x y) :: st)) : zW p G.1 e R s m args below meth c nL Q cells slots Φ pc lv (.int y :: .int x :: st) := fun H locs ls hΦ hl => va_mmin hz.x hz.b (by rw [hz.ml]; exact hl.1.symm) hz.o (hz.t _ hlink) (hz.t _ q630) (hz.t _ q98) (hz.t _ q631) hf hl9 hc9.1 hc9.2 hd (kk H locs ls hΦ hl)
theorem z_mabs (hz : zC p m c cc nL s args own G A) {index : Nat} {x : Int32} (hlink : Cond.methodLink own index ⟨"java/lang/Math", "abs", "(I)I"⟩ ∈ lw_all) (hf : 1 ≤ R.frames) (hl9 : (st.map fun v => v.category).sum + 13 ≤ R.locals) (hc9 : cells ≤ R.cells ∧ slots ≤ R.slots) (hd : decode cc pc = .ok (.invokestatic index, 3)) (kk : zW p G.1 e R s m args below meth c nL Q cells slots Φ (pc + 3) lv (.int (absI x) :: st)) : zW p G.1 e R s m args below meth c nL Q cells slots Φ pc lv (.int x :: st) := fun H locs ls hΦ hl => va_mabs hz.x hz.b (by rw [hz.ml]; exact hl.1.symm) hz.o (hz.t _ hlink) (hz.t _ q2346) (hz.t _ q98) (hz.t _ q2347) hf hl9 hc9.1 hc9.2 hd (kk H locs ls hΦ hl)
theorem z_mmaxl (hz : zC p m c cc nL s args own G A) {index : Nat} {x y : Int64} (hlink : Cond.methodLink own index ⟨"java/lang/Math", "max", "(JJ)J"⟩ ∈ lw_all) (hf : 1 ≤ R.frames) (hl9 : (st.map fun v => v.category).sum + 15 ≤ R.locals) (hc9 : cells ≤ R.cells ∧ slots ≤ R.slots) (hd : decode cc pc = .ok (.invokestatic index, 3)) (kk : zW p G.1 e R s m args below meth c nL Q cells slots Φ (pc + 3) lv (.long (maxL x y) :: st)) : zW p G.1 e R s m args below meth c nL Q cells slots Φ pc lv (.long y :: .long x :: st) := fun H locs ls hΦ hl => va_mmax_long hz.x hz.b (by rw [hz.ml]; exact hl.1.symm) hz.o (hz.t _ hlink) (hz.t _ q1562) (hz.t _ q98) (hz.t _ q1563) hf hl9 hc9.1 hc9.2 hd (kk H locs ls hΦ hl)
end ZMath
