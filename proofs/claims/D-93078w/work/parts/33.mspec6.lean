/-! M's knocks as pure words -/
set_option maxRecDepth 100000
def saySum (h : Nat → Int32) : Nat → Nat
  | 0 => 0
  | k + 1 => saySum h k + (tN (h (374 + k)) / 5 + tN (h (374 + k)) % 5 + 4)
/-- the knocks of a letter's half -/
def knN (h : Nat → Int32) (q : Nat) : Nat := (if q % 2 = 0 then tN (h (374 + q / 2)) / 5 else tN (h (374 + q / 2)) % 5) + 1
def onesF (nb : Nat → Int32) (to : Nat) : Nat → (Nat → Int32)
  | 0 => nb
  | c + 1 => upd (onesF nb to c) (to + c) 1
def toF (h : Nat → Int32) (base : Nat) : Nat → Nat
  | 0 => base
  | q + 1 => toF h base q + knN h q + 1
def sayF (h nb : Nat → Int32) (base : Nat) : Nat → (Nat → Int32)
  | 0 => nb
  | q + 1 => onesF (sayF h nb base q) (toF h base q) (knN h q)
theorem toF_even {h : Nat → Int32} {base : Nat} : ∀ k, toF h base (2 * k) = base + saySum h k
  | 0 => rfl
  | k + 1 => by
    have ih := toF_even (h := h) (base := base) k
    show toF h base (2 * k + 1 + 1) = _
    have e1 : (2 * k) % 2 = 0 := by omega
    have e2 : ¬ (2 * k + 1) % 2 = 0 := by omega
    have e3 : (2 * k) / 2 = k := by omega
    have e4 : (2 * k + 1) / 2 = k := by omega
    simp only [toF, knN, saySum, if_pos e1, if_neg e2, e3, e4, ih]
    omega
theorem toF_le {h : Nat → Int32} {base a : Nat} : ∀ d, toF h base a ≤ toF h base (a + d)
  | 0 => Nat.le_refl _
  | d + 1 => by
    have := toF_le (h := h) (base := base) (a := a) d
    show _ ≤ toF h base (a + d) + knN h (a + d) + 1
    omega
theorem toF_lt {h : Nat → Int32} {base q k : Nat} (hq : q < 2 * k) : toF h base q + knN h q + 1 ≤ base + saySum h k := by
  have := toF_le (h := h) (base := base) (a := q + 1) (2 * k - (q + 1))
  rw [show q + 1 + (2 * k - (q + 1)) = 2 * k by omega, toF_even] at this
  exact this
theorem rx_neg {x : Int32} {k : Nat} (h : x = nI k - 1) (hk : k < 2 ^ 31) : x < 0 ↔ k = 0 := by
  subst h
  rcases Nat.eq_zero_or_pos k with e | e
  · subst e; decide
  · rw [nI_subp e hk]
    exact ⟨fun h9 => absurd h9 (nI_pos (by omega)), fun h9 => by omega⟩
theorem rx_dec {k : Nat} (h : 1 ≤ k) (hk : k < 2 ^ 31) : nI k - 1 + Int32.ofInt (-1) = nI (k - 1) - 1 := by
  rw [nI_subp h hk, show Int32.ofInt (-1) = (-1 : Int32) by decide]
  exact (Int32.sub_eq_add_neg (nI (k - 1)) 1).symm
theorem rx_in {k : Nat} (hk : k + 1 < 2 ^ 31) : nI k = nI (k + 1) - 1 := by
  rw [nI_subp (by omega) hk]; rfl
def sSay (g wd sz nb : Nat → Int32) (s : Int32) : zT :=
  let h := upd g 7 0
  let k := tN (g 7)
  if inR s 0 3 then
    (if ∀ q, q < k → inR (h (374 + q)) 0 24 then
      (if 40 < saySum h k then (3, 0, wd, sz, nb)
       else (0, nI (saySum h k), upd wd (tN s) 8, upd sz (tN s) (nI (saySum h k)), sayF h (zeF nb (tN s) 40) (40 * tN s) (2 * k)))
     else (3, 0, wd, sz, nb))
  else (1, 0, wd, sz, nb)
