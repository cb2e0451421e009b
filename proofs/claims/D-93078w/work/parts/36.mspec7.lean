/-! Voices as pure words: bodies by acts; w: the way's number, t: its minutes, K: its kind -/
set_option maxRecDepth 100000
abbrev zV : Type := (Nat → Int32) × Nat
def bgF (b : Int32) (s : zV) : zV := if s.2 < 40 then (upd s.1 s.2 b, s.2 + 1) else s
theorem bgF_le {b : Int32} {s : zV} (h : s.2 ≤ 40) : (bgF b s).2 ≤ 40 := by
  unfold bgF
  split
  · simp only; omega
  · exact h
abbrev ownP (k a : Nat) : Prop := k = 0 ∨ (k = 1 ∧ a = 1) ∨ (k = 2 ∧ a = 2) ∨ (k = 3 ∧ a < 2) ∨ (k = 4 ∧ a = 3) ∨ (k = 5 ∧ (a = 0 ∨ a = 2)) ∨ (k = 6 ∧ a = 3) ∨ (k = 7 ∧ a = 2)
section Voi
variable (w t : Int32) (K : Nat)
def b00 (x : Int32) (s : zV) : Int32 × zV := (x + w, bgF 10 s)
def b30 (x : Int32) (s : zV) : Int32 × zV := let q := b00 w x (bgF 40 s); (q.1 - 1, q.2)
def b50 (x : Int32) (s : zV) : Int32 × zV := let q := b00 w x (bgF 60 s); (-q.1, q.2)
def v0 (x : Int32) (s : zV) : Int32 × zV := if K = 3 then b30 w x s else if K = 5 ∨ K = 7 then b50 w x s else b00 w x s
def b02 (x : Int32) (s : zV) : Int32 × zV := (x - t, bgF 12 s)
def b22 (x : Int32) (s : zV) : Int32 × zV := let q := b02 t x (bgF 30 s); (q.1 * 3, q.2)
def b52 (x : Int32) (s : zV) : Int32 × zV := let q := b02 t x (bgF 61 s); (q.1 + w, q.2)
def b72 (x : Int32) (s : zV) : Int32 × zV := let q := b52 w t x (bgF 80 s); let r := v0 w K x q.2; (q.1 ^^^ r.1, r.2)
def v2 (x : Int32) (s : zV) : Int32 × zV := if K = 2 then b22 t x s else if K = 5 then b52 w t x s else if K = 7 then b72 w t K x s else b02 t x s
def b01 (x : Int32) (s : zV) : Int32 × zV := let q := v0 w K x (bgF 11 s); (q.1 * 2, q.2)
def b11 (x : Int32) (s : zV) : Int32 × zV := let q := b01 w K x (bgF 20 s); let r := v2 w t K 1 q.2; (q.1 + r.1, r.2)
def b31 (x : Int32) (s : zV) : Int32 × zV := b11 w t K (x + 2) (bgF 41 s)
def v1 (x : Int32) (s : zV) : Int32 × zV := if K = 3 then b31 w t K x s else if K = 1 ∨ K = 6 then b11 w t K x s else b01 w K x s
def b03 (x : Int32) (s : zV) : Int32 × zV := let q := v1 w t K x (bgF 13 s); let r := v2 w t K x q.2; (q.1 ^^^ r.1, r.2)
def b43 (x : Int32) (s : zV) : Int32 × zV := let q := b03 w t K x (bgF 50 s); let r := v0 w K 2 q.2; (q.1 - r.1, r.2)
def b63 (x : Int32) (s : zV) : Int32 × zV := let q := v1 w t K x (bgF 70 s); let r := b03 w t K x q.2; (q.1 - r.1, r.2)
def v3 (x : Int32) (s : zV) : Int32 × zV := if K = 4 then b43 w t K x s else if K = 6 then b63 w t K x s else b03 w t K x s
variable {w t : Int32} {K : Nat} {x : Int32} {s : zV}
theorem b00_le (h : s.2 ≤ 40) : (b00 w x s).2.2 ≤ 40 := bgF_le h
theorem b30_le (h : s.2 ≤ 40) : (b30 w x s).2.2 ≤ 40 := b00_le (w := w) (x := x) (bgF_le h)
theorem b50_le (h : s.2 ≤ 40) : (b50 w x s).2.2 ≤ 40 := b00_le (w := w) (x := x) (bgF_le h)
theorem v0_le (h : s.2 ≤ 40) : (v0 w K x s).2.2 ≤ 40 := by
  unfold v0
  split
  · exact b30_le h
  · split
    · exact b50_le h
    · exact b00_le h
theorem b02_le (h : s.2 ≤ 40) : (b02 t x s).2.2 ≤ 40 := bgF_le h
theorem b22_le (h : s.2 ≤ 40) : (b22 t x s).2.2 ≤ 40 := b02_le (t := t) (x := x) (bgF_le h)
theorem b52_le (h : s.2 ≤ 40) : (b52 w t x s).2.2 ≤ 40 := b02_le (t := t) (x := x) (bgF_le h)
theorem b72_le (h : s.2 ≤ 40) : (b72 w t K x s).2.2 ≤ 40 := v0_le (w := w) (K := K) (x := x) (b52_le (w := w) (t := t) (x := x) (bgF_le h))
theorem v2_le (h : s.2 ≤ 40) : (v2 w t K x s).2.2 ≤ 40 := by
  unfold v2
  split
  · exact b22_le h
  · split
    · exact b52_le h
    · split
      · exact b72_le h
      · exact b02_le h
theorem b01_le (h : s.2 ≤ 40) : (b01 w K x s).2.2 ≤ 40 := v0_le (w := w) (K := K) (x := x) (bgF_le h)
theorem b11_le (h : s.2 ≤ 40) : (b11 w t K x s).2.2 ≤ 40 := v2_le (w := w) (t := t) (K := K) (x := 1) (b01_le (w := w) (K := K) (x := x) (bgF_le h))
theorem b31_le (h : s.2 ≤ 40) : (b31 w t K x s).2.2 ≤ 40 := b11_le (w := w) (t := t) (K := K) (x := x + 2) (bgF_le h)
theorem v1_le (h : s.2 ≤ 40) : (v1 w t K x s).2.2 ≤ 40 := by
  unfold v1
  split
  · exact b31_le h
  · split
    · exact b11_le h
    · exact b01_le h
theorem b03_le (h : s.2 ≤ 40) : (b03 w t K x s).2.2 ≤ 40 := v2_le (w := w) (t := t) (K := K) (x := x) (v1_le (w := w) (t := t) (K := K) (x := x) (bgF_le h))
theorem b43_le (h : s.2 ≤ 40) : (b43 w t K x s).2.2 ≤ 40 := v0_le (w := w) (K := K) (x := 2) (b03_le (w := w) (t := t) (K := K) (x := x) (bgF_le h))
theorem b63_le (h : s.2 ≤ 40) : (b63 w t K x s).2.2 ≤ 40 := b03_le (w := w) (t := t) (K := K) (x := x) (v1_le (w := w) (t := t) (K := K) (x := x) (bgF_le h))
theorem v3_le (h : s.2 ≤ 40) : (v3 w t K x s).2.2 ≤ 40 := by
  unfold v3
  split
  · exact b43_le h
  · split
    · exact b63_le h
    · exact b03_le h
end Voi
/-- what a voice says of act a -/
def vF (w t : Int32) (K a : Nat) (x : Int32) (s : zV) : Int32 × zV := if a = 0 then v0 w K x s else if a = 1 then v1 w t K x s else if a = 2 then v2 w t K x s else v3 w t K x s
/-- a voice's outcome: the answer, the trace's row and how many -/
def sVoice (g tr : Nat → Int32) (tc : Nat) (way actn x : Int32) : Nat × Int32 × zV :=
  if inR way 0 (g 3 - 1) ∧ inR actn 0 3 then
    (let q := vF (nI (tN way)) (g (152 + 4 * tN way + 1)) (tN (g (152 + 4 * tN way))) (tN actn) x (tr, 0); (0, q.1, q.2)) else (1, 0, (tr, tc))
