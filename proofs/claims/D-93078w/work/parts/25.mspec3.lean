/-! M's hatch as pure words -/
set_option maxRecDepth 100000
/-- the men of a room, at most ten: their places in the row of who, and how many -/
def whoF (g : Nat → Int32) (room : Int32) (wh : Nat → Int32) : Nat → (Nat → Int32) × Nat
  | 0 => (wh, 0)
  | m + 1 => let q := whoF g room wh m; if q.2 < 10 ∧ g (36 + 5 * m) = room then (upd q.1 q.2 (nI m), q.2 + 1) else q
theorem whoF_10 {g wh : Nat → Int32} {room : Int32} : ∀ m, (whoF g room wh m).2 ≤ 10
  | 0 => by simp [whoF]
  | m + 1 => by
    simp only [whoF]
    split
    · rename_i h; exact h.1
    · exact whoF_10 m
theorem whoF_full {g wh : Nat → Int32} {room : Int32} {m : Nat} (h : ¬ (whoF g room wh m).2 < 10) : ∀ d, whoF g room wh (m + d) = whoF g room wh m
  | 0 => rfl
  | d + 1 => by
    rw [← Nat.add_assoc]
    simp only [whoF]
    rw [whoF_full h d]
    exact if_neg (fun q => h q.1)
theorem whoF_nat {g wh : Nat → Int32} {room : Int32} : ∀ m j, j < (whoF g room wh m).2 → ∃ q, q < m ∧ (whoF g room wh m).1 j = nI q
  | 0, j, h => absurd h (Nat.not_lt_zero _)
  | m + 1, j, h => by
    simp only [whoF] at h ⊢
    split at h
    · rename_i c; rw [if_pos c]
      by_cases e : j = (whoF g room wh m).2
      · exact ⟨m, Nat.lt_succ_self m, by rw [e]; exact ld_self⟩
      · obtain ⟨q, h1, h2⟩ := whoF_nat (g := g) (wh := wh) (room := room) m j (by simp only at h; omega)
        exact ⟨q, by omega, ld_ne e h2⟩
    · rename_i c; rw [if_neg c]
      obtain ⟨q, h1, h2⟩ := whoF_nat m j h
      exact ⟨q, by omega, h2⟩
/-- whether two can go in a turn -/
def canP (g W : Nat → Int32) (a b : Nat) (turn t : Int32) : Int32 :=
  if g 0 + turn * t ≤ g (36 + 5 * tN (W a) + 4) ∧ g 0 + turn * t ≤ g (36 + 5 * tN (W b) + 4) ∧ 0 < g (36 + 5 * tN (W a) + 3) + g (36 + 5 * tN (W b) + 3) then 1 else 0
abbrev bitI (k : Nat) : Int32 := (1 : Int32) <<< (nI k &&& 31)
abbrev prS (a b : Nat) : Int32 := bitI a ||| bitI b
abbrev woS (S a b : Nat) : Nat := tN (nI S &&& (prS a b ^^^ -1))
/-- a set without others: a natural number no greater -/
theorem and_nat {S : Nat} (h : S < 2 ^ 31) (X : Int32) : nI S &&& X = nI (tN (nI S &&& X)) ∧ tN (nI S &&& X) ≤ S := by
  have e0 : (nI S).toBitVec.toNat = S := by
    have h2 := nI_toInt h
    rw [Int32.toInt, BitVec.toInt_eq_toNat_cond] at h2
    have := (nI S).toBitVec.isLt
    split at h2 <;> omega
  have h1 : (nI S &&& X).toBitVec.toNat ≤ S := by
    rw [Int32.toBitVec_and, BitVec.toNat_and, e0]
    exact Nat.and_le_left
  have hb : (nI S &&& X).toBitVec.toNat < 2 ^ 31 := by omega
  have e2 : nI S &&& X = nI ((nI S &&& X).toBitVec.toNat) := by
    apply Int32.toInt_inj.mp
    rw [nI_toInt hb, Int32.toInt, BitVec.toInt_eq_toNat_cond]
    split <;> omega
  have e3 : tN (nI S &&& X) = (nI S &&& X).toBitVec.toNat := (congrArg tN e2).trans (nI_clamp hb)
  exact ⟨by rw [e3]; exact e2, by rw [e3]; exact h1⟩
theorem bit_nat {c : Nat} (h : c ≤ 10) : bitI c = nI (2 ^ c) := by
  have : c = 0 ∨ c = 1 ∨ c = 2 ∨ c = 3 ∨ c = 4 ∨ c = 5 ∨ c = 6 ∨ c = 7 ∨ c = 8 ∨ c = 9 ∨ c = 10 := by omega
  rcases this with e | e | e | e | e | e | e | e | e | e | e <;> subst e <;> decide
theorem pow_10 {c : Nat} (h : c ≤ 10) : 1 ≤ 2 ^ c ∧ 2 ^ c ≤ 1024 := ⟨Nat.one_le_two_pow, Nat.pow_le_pow_right (by omega) h⟩
/-- the turns of a set, tried with a and the next n -/
def trB (g W : Nat → Int32) (t : Int32) (S a : Nat) (T : Nat → Int32) : Nat → (Nat → Int32)
  | 0 => T
  | n + 1 =>
    let T' := trB g W t S a T n
    if hasB (nI S) (nI (a + n)) ∧ T' (woS S a (a + n)) + 1 < T' S ∧ canP g W a (a + n) (T' (woS S a (a + n)) + 1) t ≠ 0 then upd T' S (T' (woS S a (a + n)) + 1) else T'
def trA (g W : Nat → Int32) (t : Int32) (c S : Nat) (T : Nat → Int32) : Nat → (Nat → Int32)
  | 0 => T
  | a + 1 => let T' := trA g W t c S T a; if hasB (nI S) (nI a) then trB g W t S a T' (c - a) else T'
def trS (g W : Nat → Int32) (t : Int32) (c : Nat) (T : Nat → Int32) : Nat → (Nat → Int32)
  | 0 => upd T 0 0
  | k + 1 => trA g W t c (k + 1) (upd (trS g W t c T k) (k + 1) 1000000) c
/-- the best set of the first k -/
def moF (T : Nat → Int32) : Nat → Nat
  | 0 => 0
  | k + 1 => if T (k + 1) < 1000000 ∧ (0 < bitsF (nI (k + 1)) 16 - bitsF (nI (moF T k)) 16 ∨ bitsF (nI (k + 1)) 16 - bitsF (nI (moF T k)) 16 = 0 ∧ T (k + 1) < T (moF T k)) then k + 1 else moF T k
theorem moF_le {T : Nat → Int32} : ∀ k, moF T k ≤ k
  | 0 => Nat.le_refl 0
  | k + 1 => by
    simp only [moF]
    split
    · exact Nat.le_refl _
    · exact Nat.le_succ_of_le (moF_le k)
def amF (W : Nat → Int32) (set : Int32) : Nat → Int32
  | 0 => 0
  | k + 1 => amF W set k ||| (if hasB set (nI k) then (1 : Int32) <<< (W k &&& 31) else 0)
def loB (g W T : Nat → Int32) (t : Int32) (S a : Nat) (x : Int32) : Nat → Int32
  | 0 => x
  | b + 1 =>
    let y := loB g W T t S a x b
    if ((nI S &&& prS a b) = prS a b ∧ T (woS S a b) = T S - 1 ∧ canP g W a b (T S) t ≠ 0) ∧ (y = 0 ∨ prS a b < y) then prS a b else y
def loA (g W T : Nat → Int32) (t : Int32) (S : Nat) : Nat → Int32
  | 0 => 0
  | a + 1 => loB g W T t S a (loA g W T t S a) (a + 1)
abbrev nxS (g W T : Nat → Int32) (t : Int32) (c S : Nat) : Nat := tN (nI S &&& (loA g W T t S c ^^^ -1))
/-- the set that is left, as long as it takes more than i + 1 turns -/
def rowF (g W T : Nat → Int32) (t : Int32) (c : Nat) (i : Int32) : Nat → Nat → Nat
  | 0, S => S
  | f + 1, S => if i + 1 < T S then rowF g W T t c i f (nxS g W T t c S) else S
abbrev whC (g : Nat → Int32) (wh : Nat → Int32) (room : Int32) : Nat := (whoF g room wh (tN (g 1))).2
abbrev whW (g : Nat → Int32) (wh : Nat → Int32) (room : Int32) : Nat → Int32 := (whoF g room wh (tN (g 1))).1
abbrev whT (g : Nat → Int32) (wh tr : Nat → Int32) (room t : Int32) : Nat → Int32 := trS g (whW g wh room) t (whC g wh room) tr (2 ^ whC g wh room - 1)
abbrev whM (g : Nat → Int32) (wh tr : Nat → Int32) (room t : Int32) : Nat := moF (whT g wh tr room t) (2 ^ whC g wh room - 1)
abbrev isHatchP (room t : Int32) : Prop := inR room 0 7 ∧ inR t 1 600
def sMost (g wh tr : Nat → Int32) (room t what : Int32) : zS :=
  if isHatchP room t ∧ inR what 0 2 then (0, if what = 0 then amF (whW g wh room) (nI (whM g wh tr room t)) (whC g wh room) else if what = 1 then bitsF (nI (whM g wh tr room t)) 16 else whT g wh tr room t (whM g wh tr room t), g) else (1, 0, g)
def sRow (g wh tr : Nat → Int32) (room t i : Int32) : zS :=
  if isHatchP room t ∧ 0 ≤ i then (if whT g wh tr room t (whM g wh tr room t) ≤ i then (2, 0, g) else
    (0, amF (whW g wh room) (loA g (whW g wh room) (whT g wh tr room t) t (rowF g (whW g wh room) (whT g wh tr room t) t (whC g wh room) i 16 (whM g wh tr room t)) (whC g wh room)) (whC g wh room), g)) else (1, 0, g)
/-- whether those of a row can go as the k-th: of the first m men -/
def gnF (g : Nat → Int32) (set : Int32) (k : Nat) (t can : Int32) : Nat → Int32 × Int32
  | 0 => (can, 0)
  | m + 1 => let q := gnF g set k t can m; if q.1 ≠ 0 ∧ hasB set (nI m) then (if g 0 + nI (k + 1) * t ≤ g (36 + 5 * m + 4) then 1 else 0, q.2 + g (36 + 5 * m + 3)) else q
def gcF (all set gone : Int32) : Int32 := if 0 < set ∧ set &&& (all ^^^ -1) = 0 ∧ set &&& gone = 0 ∧ bitsF set 16 < 3 then 1 else 0
def goesR (g : Nat → Int32) (nm : Nat) (all t : Int32) : Nat → Nat → Int32 → Int32
  | 0, _, _ => 0
  | n + 1, k, gone =>
    let q := gnF g (g (374 + k)) k t (gcF all (g (374 + k)) gone) nm
    if q.1 = 0 ∨ q.2 = 0 then nI (1 + k) else goesR g nm all t n (k + 1) (gone ||| g (374 + k))
def sGoes (g wh : Nat → Int32) (room t : Int32) : zS :=
  let h := upd g 7 0
  if isHatchP room t then (0, goesR h (tN (g 1)) (amF (whW h wh room) (nI (2 ^ whC h wh room - 1)) (whC h wh room)) t (tN (g 7)) 0 0, h) else (1, 0, h)
theorem rowF_e {g W T : Nat → Int32} {t i : Int32} {c S : Nat} (h : ¬ i + 1 < T S) : ∀ f, rowF g W T t c i f S = S
  | 0 => rfl
  | f + 1 => by simp only [rowF]; rw [if_neg h]
theorem rowF_s {g W T : Nat → Int32} {t i : Int32} {c S f : Nat} (h : i + 1 < T S) : rowF g W T t c i (f + 1) S = rowF g W T t c i f (nxS g W T t c S) := by
  simp only [rowF]; rw [if_pos h]
/-- a best set's turns, and that each turn's pair leaves one turn less -/
def rowOk (g W T : Nat → Int32) (t : Int32) (c S0 : Nat) : Prop :=
  (∃ k, k ≤ 16 ∧ T S0 = nI k) ∧ ∀ S k, S < 2 ^ c → k < 16 → T S = nI (k + 1) → T (nxS g W T t c S) = nI k
theorem nI_s1 (k : Nat) : nI k + 1 = nI (k + 1) := nI_1 k
