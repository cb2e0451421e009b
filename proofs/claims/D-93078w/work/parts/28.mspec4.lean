/-! M's laws, ways, tanks as pure words -/
set_option maxRecDepth 100000
def sLaw (g : Nat → Int32) (u a b c : Int32) : zS := if inR u 0 3 then (0, givenF g (tN u) a b c, g) else (1, 0, g)
/-- climbing from k0 on: x stands on the chain, kind isn't below it -/
def climbOk (kind k0 : Nat) (x : Int32) : Prop := (x = -1 ∧ ¬ kind ∈ chainN k0) ∨ ∃ k, k < 8 ∧ x = nI k ∧ (kind ∈ chainN k0 ↔ kind ∈ chainN k)
def climbM (x : Int32) : Nat := if x < 0 then 0 else tN x + 1
theorem climb_step {kind k0 k : Nat} (hk : k < 8) (hne : ¬ k = kind) (h : kind ∈ chainN k0 ↔ kind ∈ chainN k) : climbOk kind k0 (aboveI k) ∧ climbM (aboveI k) < climbM (nI k) := by
  have : k = 0 ∨ k = 1 ∨ k = 2 ∨ k = 3 ∨ k = 4 ∨ k = 5 ∨ k = 6 ∨ k = 7 := by omega
  rcases this with e | e | e | e | e | e | e | e <;> subst e
  · refine ⟨Or.inl ⟨by decide, ?_⟩, by decide⟩
    rw [h]; simp only [chainN, if_pos, List.mem_singleton]; omega
  all_goals
    refine ⟨Or.inr ?_, by decide⟩
  · exact ⟨0, by decide, by decide, by rw [h]; simp [chainN]; omega⟩
  · exact ⟨0, by decide, by decide, by rw [h]; simp [chainN]; omega⟩
  · exact ⟨1, by decide, by decide, by rw [h]; simp [chainN]; omega⟩
  · exact ⟨0, by decide, by decide, by rw [h]; simp [chainN]; omega⟩
  · exact ⟨0, by decide, by decide, by rw [h]; simp [chainN]; omega⟩
  · exact ⟨1, by decide, by decide, by rw [h]; simp [chainN]; omega⟩
  · exact ⟨5, by decide, by decide, by rw [h]; simp [chainN]; omega⟩
theorem chain_self {k : Nat} (hk : k < 8) : k ∈ chainN k := by
  have : k = 0 ∨ k = 1 ∨ k = 2 ∨ k = 3 ∨ k = 4 ∨ k = 5 ∨ k = 6 ∨ k = 7 := by omega
  rcases this with e | e | e | e | e | e | e | e <;> subst e <;> decide
/-- the ways as they may stand -/
def wayOk (g : Nat → Int32) (nw : Nat) : Prop := ∀ w, w < nw → (∃ k, k < 8 ∧ g (152 + 4 * w) = nI k) ∧ (∃ t, 1 ≤ t ∧ t ≤ 600 ∧ g (152 + 4 * w + 1) = nI t) ∧ (∃ t, 1 ≤ t ∧ t ≤ 9 ∧ g (152 + 4 * w + 2) = nI t) ∧ ∃ t, t ≤ 100 ∧ g (152 + 4 * w + 3) = nI t
def tidesF (g : Nat → Int32) (fr : Nat) : Nat → Int32
  | 0 => 0
  | d + 1 => tidesF g fr d + givenF g 2 (nI (fr + d)) 0 0
def sTide (g : Nat → Int32) (fr to : Int32) : zS := if inR fr 0 2399 ∧ inR to fr 2399 then (0, tidesF g (tN fr) (tN to - tN fr + 1), g) else (1, 0, g)
def lockF (g : Nat → Int32) (w : Nat) (gg x : Int32) : Int32 := minI gg (x / g (152 + 4 * w + 1) * g (152 + 4 * w + 2))
/-- what a way of a kind lets out -/
def outK (g : Nat → Int32) (kind w : Nat) (gg x : Int32) : Int32 :=
  if kind = 1 then lockF g w gg x
  else if kind = 2 then (if g (152 + 4 * w + 1) ≤ x then gg - gg * g (152 + 4 * w + 3) / 100 else 0)
  else if kind = 3 then lockF g w gg (tidesF g (tN (g 0)) (tN x))
  else if kind = 4 then (if g (152 + 4 * w + 1) ≤ x then gg else 0)
  else if kind = 6 then maxI 0 (lockF g w gg x - 1)
  else if kind = 7 then (if g (152 + 4 * w + 1) ≤ x ∧ 0 < gg then 1 else 0)
  else 0
def outF (g : Nat → Int32) (w : Nat) (gg x : Int32) : Int32 := outK g (tN (g (152 + 4 * w))) w gg x
abbrev areOutP (gg x : Int32) : Prop := inR gg 0 99 ∧ inR x 0 2400
def sOut (g : Nat → Int32) (way gg x : Int32) : zS := if inR way 0 (g 3 - 1) ∧ areOutP gg x then (0, outF g (tN way) gg x, g) else (1, 0, g)
def bestF (g : Nat → Int32) (gg x : Int32) : Nat → Int32 × Int32
  | 0 => (-1000002, -1)
  | w + 1 => let q := bestF g gg x w; if q.2 < outF g w gg x then (nI w, outF g w gg x) else q
def sBest (g : Nat → Int32) (gg x : Int32) : zS := if areOutP gg x then (if (bestF g gg x (tN (g 3))).1 < 0 then (2, 0, g) else (0, (bestF g gg x (tN (g 3))).1, g)) else (1, 0, g)
def stopF (g : Nat → Int32) (d m h : Int32) : Nat → Nat → Int32
  | 0, _ => -1000002
  | k + 1, s => if givenF g 1 d m (nI s) ≤ h then nI s else stopF g d m h k (s + 1)
def sStop (g : Nat → Int32) (d m h : Int32) : zS := if inR d 1 300 ∧ inR m 0 2400 ∧ inR h 0 1000 then (if stopF g d m h 601 0 = -1000002 then (2, 0, g) else (0, stopF g d m h 601 0, g)) else (1, 0, g)
def blownF (g : Nat → Int32) : Nat → Int32
  | 0 => 0
  | t + 1 => blownF g t ||| (g (200 + 3 * t + 2) <<< (nI t &&& 31))
def liftF (g : Nat → Int32) (set what : Int32) : Nat → Int32
  | 0 => 0
  | t + 1 => liftF g set what t + (if hasB set (nI t) then (if what = 0 then g (200 + 3 * t + 1) else g (200 + 3 * t + 1) * g (200 + 3 * t)) else 0)
def sLift (g : Nat → Int32) (set what : Int32) : zS := if inR set (-1) (nI (2 ^ tN (g 4) - 1)) ∧ inR what 0 1 then (0, liftF g (if set < 0 then blownF g (tN (g 4)) else set) what (tN (g 4)), g) else (1, 0, g)
/-- the tanks' table: one set, its tanks one by one -/
def mrT (g : Nat → Int32) (nt : Nat) (b : Int32) (S : Nat) (M : Nat → Int32) : Nat → (Nat → Int32)
  | 0 => M
  | t + 1 =>
    let M' := mrT g nt b S M t
    if 0 < M' S then upd M' S (if ¬ (S ||| 2 ^ t) = S ∧ absI (liftF g (nI (S ||| 2 ^ t)) 1 nt) ≤ b then minI (M' S) (M' (S ||| 2 ^ t) + 1) else M' S) else M'
def mrS (g : Nat → Int32) (nt : Nat) (w b : Int32) (M : Nat → Int32) : Nat → (Nat → Int32)
  | 0 => M
  | d + 1 =>
    let S := 2 ^ nt - 1 - d
    mrT g nt b S (upd (mrS g nt w b M d) S (if liftF g (nI S) 0 nt < w then 1000000 else 0)) nt
theorem mrT_full {g : Nat → Int32} {nt S t : Nat} {b : Int32} {M : Nat → Int32} (h : ¬ 0 < mrT g nt b S M t S) : ∀ d, mrT g nt b S M (t + d) = mrT g nt b S M t
  | 0 => rfl
  | d + 1 => by
    rw [← Nat.add_assoc]
    simp only [mrT]
    rw [mrT_full h d]
    exact if_neg h
theorem or_nat {S t n : Nat} (hn : n ≤ 10) (hS : S < 2 ^ n) (ht : t < n) : nI S ||| bitI t = nI (S ||| 2 ^ t) ∧ S ||| 2 ^ t < 2 ^ n := by
  have h1 : S ||| 2 ^ t < 2 ^ n := Nat.or_lt_two_pow hS (Nat.pow_lt_pow_right (by omega) ht)
  have hp := pow_10 hn
  have e : ∀ k : Nat, k < 2 ^ 31 → (nI k).toBitVec.toNat = k := fun k hk => by
    have h2 := nI_toInt hk
    rw [Int32.toInt, BitVec.toInt_eq_toNat_cond] at h2
    have := (nI k).toBitVec.isLt
    split at h2 <;> omega
  refine ⟨?_, h1⟩
  rw [bit_nat (by omega)]
  apply Int32.toBitVec_inj.mp
  apply BitVec.eq_of_toNat_eq
  have hp2 := pow_10 (c := t) (by omega)
  rw [Int32.toBitVec_or, BitVec.toNat_or, e S (by omega), e (2 ^ t) (by omega), e _ (by omega)]
/-- the first tank to be blown next -/
abbrev rtP (g : Nat → Int32) (nt : Nat) (b : Int32) (M : Nat → Int32) (S t : Nat) : Prop := hasB (nI S) (nI t) ∨ b < absI (liftF g (nI (S ||| 2 ^ t)) 1 nt) ∨ ¬ M (S ||| 2 ^ t) = M S - 1
def rtF (g : Nat → Int32) (nt : Nat) (b : Int32) (M : Nat → Int32) (S : Nat) : Nat → Nat → Nat
  | 0, t => t
  | k + 1, t => if rtP g nt b M S t then rtF g nt b M S k (t + 1) else t
def rrF (g : Nat → Int32) (nt : Nat) (b : Int32) (M : Nat → Int32) : Nat → Nat → Nat
  | 0, S => rtF g nt b M S nt 0
  | k + 1, S => rrF g nt b M k (S ||| 2 ^ rtF g nt b M S nt 0)
abbrev mrF (g mr : Nat → Int32) (w b : Int32) : Nat → Int32 := mrS g (tN (g 4)) w b mr (2 ^ tN (g 4))
abbrev blN (g : Nat → Int32) : Nat := tN (blownF g (tN (g 4)))
def sRaise (g mr : Nat → Int32) (w b i : Int32) : zS :=
  if inR w 0 400 ∧ inR b 0 20000 ∧ -1 ≤ i then
    (if 1000000 ≤ mrF g mr w b (blN g) ∨ mrF g mr w b (blN g) ≤ i then (2, 0, g)
     else if i < 0 then (0, mrF g mr w b (blN g), g) else (0, nI (rrF g (tN (g 4)) b (mrF g mr w b) (tN i) (blN g)), g)) else (1, 0, g)
/-- that the table's fewest can be reached, tank by tank -/
def raiseOk (g : Nat → Int32) (nt : Nat) (b : Int32) (M : Nat → Int32) (S0 : Nat) : Prop :=
  (M S0 = 1000000 ∨ ∃ k, k ≤ 8 ∧ M S0 = nI k) ∧ ∀ S k, S < 2 ^ nt → k < 8 → M S = nI (k + 1) → ∃ t, t < nt ∧ ¬ rtP g nt b M S t
theorem madeF_1 {g : Nat → Int32} {nm : Nat} (h : g 1 = nI nm) : ∀ k, madeF g nm k 1 = nI (nm + k)
  | 0 => h
  | k + 1 => by simp only [madeF, comesF]; exact ld_self
theorem rt_lt {P : Nat → Prop} {t tt : Nat} (h : t ≤ tt) (hp : P t) (hn : ¬ P tt) : t + 1 ≤ tt := by
  rcases Nat.lt_or_ge t tt with h1 | h1
  · exact h1
  · exact absurd (Nat.le_antisymm h h1 ▸ hp) hn
theorem nI_subp {k : Nat} (h : 1 ≤ k) (hk : k < 2 ^ 31) : nI k - 1 = nI (k - 1) := by
  rw [show (1 : Int32) = nI 1 by decide, pk_sub h]
