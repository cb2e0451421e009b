/-! M's hull by minutes, its texts' values: pure words -/
set_option maxRecDepth 100000
def bitsF (x : Int32) : Nat → Int32
  | 0 => 0
  | k + 1 => bitsF x k + dig x (nI k)
def holdF (v most : Int32) : Int32 := maxI 0 (minI most v)
def doneF (op a b : Int32) : Int32 :=
  if op = 20000 then zB (a ≠ 0 ∨ b ≠ 0) else if op = 20001 then zB (a ≠ 0 ∧ b ≠ 0) else if op = 20002 then zB (a < b) else if op = 20003 then zB (a = b) else if op = 20004 then zB (b < a)
  else if op = 20005 then a + b else if op = 20006 then a - b else if op = 20007 then a * b else if op = 20008 then (if b = 0 then 0 else a / b) else (if b = 0 then 0 else a - a / b * b)
def leafF (op a b c : Int32) : Int32 := if op < 10000 then op else if op = 10000 then a else if op = 10001 then b else c
/-- the pile behind k codes -/
def pileF (cd : Nat → Int32) (a b c : Int32) (pl : Nat → Int32) : Nat → (Nat → Int32) × Nat
  | 0 => (pl, 0)
  | k + 1 =>
    let q := pileF cd a b c pl k
    if cd k < 20000 then (upd q.1 q.2 (leafF (cd k) a b c), q.2 + 1)
    else if cd k = 20010 then (upd q.1 (q.2 - 1) (if q.1 (q.2 - 1) = 0 then 1 else 0), q.2)
    else (upd q.1 (q.2 - 2) (doneF (cd k) (q.1 (q.2 - 2)) (q.1 (q.2 - 1))), q.2 - 1)
/-- the pile is never too low -/
def pileOk (cd : Nat → Int32) : Nat → Option Nat
  | 0 => some 0
  | k + 1 => match pileOk cd k with
    | none => none
    | some h => if cd k < 20000 then some (h + 1) else if cd k = 20010 then (if 1 ≤ h then some h else none) else (if 2 ≤ h then some (h - 1) else none)
theorem pileOk_le {cd : Nat → Int32} : ∀ {k h : Nat}, pileOk cd k = some h → h ≤ k := by
  intro k
  induction k with
  | zero => intro h e; cases e; exact Nat.le_refl 0
  | succ k ih =>
    intro h e
    simp only [pileOk] at e
    cases e2 : pileOk cd k with
    | none => rw [e2] at e; cases e
    | some h2 =>
      rw [e2] at e
      have := ih e2
      simp only at e
      split at e
      · cases e; omega
      · split at e
        · split at e
          · cases e; omega
          · cases e
        · split at e
          · cases e; omega
          · cases e
theorem pileOk_pre {cd : Nat → Int32} {k : Nat} : ∀ {d : Nat} {h : Nat}, pileOk cd (k + d) = some h → ∃ h2, pileOk cd k = some h2 := by
  intro d
  induction d with
  | zero => intro h e; exact ⟨h, e⟩
  | succ d ih =>
    intro h e
    have e' : pileOk cd ((k + d) + 1) = some h := e
    simp only [pileOk] at e'
    cases e2 : pileOk cd (k + d) with
    | none => rw [e2] at e'; cases e'
    | some h2 => exact ih e2
theorem pileF_h {cd : Nat → Int32} {a b c : Int32} {pl : Nat → Int32} : ∀ {k h : Nat}, pileOk cd k = some h → (pileF cd a b c pl k).2 = h := by
  intro k
  induction k with
  | zero => intro h e; cases e; rfl
  | succ k ih =>
    intro h e
    simp only [pileOk] at e
    cases e2 : pileOk cd k with
    | none => rw [e2] at e; cases e
    | some h2 =>
      rw [e2] at e
      have h3 := ih e2
      simp only [pileF]
      simp only at e
      split at e
      · rename_i c1; cases e; rw [if_pos c1]; simp [h3]
      · rename_i c1
        rw [if_neg c1]
        split at e
        · rename_i c2
          rw [if_pos c2]
          split at e
          · cases e; simp [h3]
          · cases e
        · rename_i c2
          rw [if_neg c2]
          split at e
          · cases e; simp [h3]
          · cases e
/-- what the pile holds doesn't hang on what lay there before -/
theorem pileF_eq {cd : Nat → Int32} {a b c : Int32} {pl pl2 : Nat → Int32} : ∀ {k h : Nat}, pileOk cd k = some h → ∀ j, j < h → (pileF cd a b c pl k).1 j = (pileF cd a b c pl2 k).1 j := by
  intro k
  induction k with
  | zero => intro h e j hj; cases e; omega
  | succ k ih =>
    intro h e j hj
    simp only [pileOk] at e
    cases e2 : pileOk cd k with
    | none => rw [e2] at e; cases e
    | some h2 =>
      rw [e2] at e
      have h3 := pileF_h (a := a) (b := b) (c := c) (pl := pl) e2
      have h4 := pileF_h (a := a) (b := b) (c := c) (pl := pl2) e2
      have i2 := ih e2
      simp only [pileF]
      simp only at e
      split at e
      · rename_i c1
        cases e
        rw [if_pos c1, if_pos c1, h3, h4]
        by_cases hj2 : j = h2
        · simp [upd, hj2]
        · simp only [upd, if_neg hj2]; exact i2 j (by omega)
      · rename_i c1
        rw [if_neg c1, if_neg c1]
        split at e
        · rename_i c2
          rw [if_pos c2, if_pos c2, h3, h4]
          split at e
          · cases e
            rw [i2 (h - 1) (by omega)]
            by_cases hj2 : j = h - 1
            · simp [upd, hj2]
            · simp only [upd, if_neg hj2]; exact i2 j hj
          · cases e
        · rename_i c2
          rw [if_neg c2, if_neg c2, h3, h4]
          split at e
          · cases e
            rw [i2 (h2 - 2) (by omega), i2 (h2 - 1) (by omega)]
            by_cases hj2 : j = h2 - 2
            · simp [upd, hj2]
            · simp only [upd, if_neg hj2]; exact i2 j (by omega)
          · cases e
/-- where a use's text stands, its codes -/
abbrev txN (g : Nat → Int32) (u : Nat) : Nat := tN (g (394 + 52 * u))
abbrev txC (g : Nat → Int32) (u : Nat) : Nat → Int32 := fun k => g (394 + 52 * u + 1 + k)
/-- a text as it may stand: none, or a well-made one of at most 50 codes -/
def txOk (g : Nat → Int32) (u : Nat) : Prop := ∃ k, k ≤ 50 ∧ g (394 + 52 * u) = nI k ∧ (k = 0 ∨ pileOk (txC g u) k = some 1)
def workP (k : Nat) (cd : Nat → Int32) (a b c : Int32) : Int32 := (pileF cd a b c (fun _ => 0) k).1 0
/-- what a use gives, held: of k codes -/
def givenP (k : Nat) (cd : Nat → Int32) (u : Nat) (a b c : Int32) : Int32 :=
  if u = 0 then holdF (if 0 < k then workP k cd a b c else 1 + a) 99
  else if u = 1 then holdF (if 0 < k then workP k cd a b c else a + b / 10 - c) 1000
  else if u = 2 then zB (if 0 < k then workP k cd a b c ≠ 0 else a - a / 360 * 360 < 40)
  else holdF (if 0 < k then workP k cd a b c else b) 24
def givenF (g : Nat → Int32) (u : Nat) (a b c : Int32) : Int32 := givenP (txN g u) (txC g u) u a b c
/-- what two rooms have together is evened, door by door: the first d doors -/
def evenF (g : Nat → Int32) (a : Nat) : Nat → (Nat → Int32)
  | 0 => g
  | d + 1 =>
    let h := evenF g a d
    if h (13 + d) = 1 then upd (upd h (a + d + 1) ((h (a + d) + h (a + d + 1)) / 2)) (a + d) (h (a + d) + h (a + d + 1) - (h (a + d) + h (a + d + 1)) / 2) else h
/-- the first k men breathe -/
def airF (g : Nat → Int32) : Nat → (Nat → Int32)
  | 0 => g
  | k + 1 =>
    let h := airF g k
    if inR (h (36 + 5 * k)) 0 7 then upd h (28 + tN (h (36 + 5 * k))) (h (28 + tN (h (36 + 5 * k))) + givenF h 0 (h (36 + 5 * k + 1)) (h (36 + 5 * k + 2)) (h (28 + tN (h (36 + 5 * k))))) else h
/-- of the first k men those in rooms with so much die -/
def killF (g : Nat → Int32) (a : Nat) (most : Int32) : Nat → (Nat → Int32)
  | 0 => g
  | k + 1 =>
    let h := killF g a most k
    if inR (h (36 + 5 * k)) 0 7 ∧ most ≤ h (a + tN (h (36 + 5 * k))) then upd h (36 + 5 * k) 10 else h
/-- the first k valves let water in -/
def floodF (g : Nat → Int32) : Nat → (Nat → Int32)
  | 0 => g
  | k + 1 =>
    let h := floodF g k
    if h (116 + 3 * k + 2) = 1 then upd h (20 + tN (h (116 + 3 * k))) (minI 1000 (h (20 + tN (h (116 + 3 * k))) + h (116 + 3 * k + 1) * h 9 / 100)) else h
def breatheF (g : Nat → Int32) : Nat → Int32 := evenF (airF g (tN (g 1))) 28 7
def restF (g : Nat → Int32) : Nat → Int32 :=
  let g1 := killF g 28 (g 10) (tN (g 1))
  let g2 := evenF (floodF g1 (tN (g1 2))) 20 7
  let g3 := killF g2 20 1000 (tN (g2 1))
  upd g3 0 (g3 0 + 1)
def goF (g : Nat → Int32) : Nat → (Nat → Int32)
  | 0 => g
  | k + 1 => restF (breatheF (goF g k))
theorem airF_o {g : Nat → Int32} {j : Nat} (h : j < 28 ∨ 36 ≤ j) : ∀ k, airF g k j = g j
  | 0 => rfl
  | k + 1 => by
    simp only [airF]
    split
    · rename_i c
      obtain ⟨q, -, q2, q3⟩ := inR_nat 0 7 (by decide) (by decide) (by decide) (by decide) c
      have e : tN (airF g k (36 + 5 * k)) = q := by rw [q3]; exact nI_clamp (by omega)
      rw [e]
      simp only [upd, if_neg (show ¬ j = 28 + q by omega)]
      exact airF_o h k
    · exact airF_o h k
theorem evenF_o {g : Nat → Int32} {a j : Nat} : ∀ d, (j < a ∨ a + d < j) → evenF g a d j = g j
  | 0, _ => rfl
  | d + 1, h => by
    simp only [evenF]
    split
    · simp only [upd, if_neg (show ¬ j = a + d by omega), if_neg (show ¬ j = a + d + 1 by omega)]
      exact evenF_o d (by omega)
    · exact evenF_o d (by omega)
theorem killF_o {g : Nat → Int32} {a j : Nat} {most : Int32} : ∀ k, (∀ i, i < k → j ≠ 36 + 5 * i) → killF g a most k j = g j
  | 0, _ => rfl
  | k + 1, h => by
    simp only [killF]
    split
    · simp only [upd, if_neg (h k (by omega))]
      exact killF_o k (fun i hi => h i (by omega))
    · exact killF_o k (fun i hi => h i (by omega))
theorem floodF_o {g : Nat → Int32} {j : Nat} : ∀ k, (∀ i, i < k → ∃ q, q < 8 ∧ g (116 + 3 * i) = nI q) → (j < 20 ∨ 28 ≤ j) → floodF g k j = g j
  | 0, _, _ => rfl
  | k + 1, hv, h => by
    simp only [floodF]
    split
    · obtain ⟨q, q1, q2⟩ := hv k (by omega)
      have e : floodF g k (116 + 3 * k) = nI q := by rw [floodF_o k (fun i hi => hv i (by omega)) (by omega)]; exact q2
      rw [e, show tN (nI q) = q from nI_clamp (by omega)]
      simp only [upd, if_neg (show ¬ j = 20 + q by omega)]
      exact floodF_o k (fun i hi => hv i (by omega)) h
    · exact floodF_o k (fun i hi => hv i (by omega)) h
theorem txOk_congr {g h : Nat → Int32} {u : Nat} (e : ∀ j, 394 ≤ j → h j = g j) (ho : txOk g u) : txOk h u := by
  obtain ⟨k, h1, h2, h3⟩ := ho
  have e2 : txC h u = txC g u := funext fun i => e _ (by omega)
  exact ⟨k, h1, by rw [e _ (by omega)]; exact h2, by rw [e2]; exact h3⟩
theorem givenF_congr {g h : Nat → Int32} {u : Nat} {a b c : Int32} (e : ∀ j, 394 ≤ j → h j = g j) : givenF h u a b c = givenF g u a b c := by
  have e2 : txC h u = txC g u := funext fun i => e _ (by omega)
  have e3 : txN h u = txN g u := by simp only [txN]; rw [e _ (by omega)]
  simp only [givenF, e2, e3]
/-- what stays so all through: counts, texts, the valves' rooms .. -/
def gOk (g : Nat → Int32) : Prop :=
  (∃ k, k ≤ 2399 ∧ g 0 = nI k) ∧ (∃ k, k ≤ 16 ∧ g 1 = nI k) ∧ (∃ k, k ≤ 12 ∧ g 2 = nI k ∧ ∀ i, i < k → ∃ q, q < 8 ∧ g (116 + 3 * i) = nI q) ∧ ∀ u, u < 4 → txOk g u
theorem pileOk_s0 {cd : Nat → Int32} {k h h2 : Nat} (e : pileOk cd k = some h) (e2 : pileOk cd (k + 1) = some h2) (c1 : cd k < 20000) : h2 = h + 1 := by
  simp only [pileOk, e, if_pos c1] at e2
  cases e2; rfl
theorem pileOk_s1 {cd : Nat → Int32} {k h h2 : Nat} (e : pileOk cd k = some h) (e2 : pileOk cd (k + 1) = some h2) (c1 : ¬ cd k < 20000) (c2 : cd k = 20010) : 1 ≤ h ∧ h2 = h := by
  simp only [pileOk, e, if_neg c1, if_pos c2] at e2
  split at e2
  · rename_i c3; cases e2; exact ⟨c3, rfl⟩
  · cases e2
theorem pileOk_s2 {cd : Nat → Int32} {k h h2 : Nat} (e : pileOk cd k = some h) (e2 : pileOk cd (k + 1) = some h2) (c1 : ¬ cd k < 20000) (c2 : ¬ cd k = 20010) : 2 ≤ h ∧ h2 = h - 1 := by
  simp only [pileOk, e, if_neg c1, if_neg c2] at e2
  split at e2
  · rename_i c3; cases e2; exact ⟨c3, rfl⟩
  · cases e2
theorem pileF_s0 {cd : Nat → Int32} {a b c : Int32} {pl : Nat → Int32} {k h : Nat} (e : pileOk cd k = some h) (c1 : cd k < 20000) : (pileF cd a b c pl (k + 1)).1 = upd (pileF cd a b c pl k).1 h (leafF (cd k) a b c) := by
  simp only [pileF, if_pos c1, pileF_h e]
theorem pileF_s1 {cd : Nat → Int32} {a b c : Int32} {pl : Nat → Int32} {k h : Nat} (e : pileOk cd k = some h) (c1 : ¬ cd k < 20000) (c2 : cd k = 20010) : (pileF cd a b c pl (k + 1)).1 = upd (pileF cd a b c pl k).1 (h - 1) (if (pileF cd a b c pl k).1 (h - 1) = 0 then 1 else 0) := by
  simp only [pileF, if_neg c1, if_pos c2, pileF_h e]
theorem pileF_s2 {cd : Nat → Int32} {a b c : Int32} {pl : Nat → Int32} {k h : Nat} (e : pileOk cd k = some h) (c1 : ¬ cd k < 20000) (c2 : ¬ cd k = 20010) : (pileF cd a b c pl (k + 1)).1 = upd (pileF cd a b c pl k).1 (h - 2) (doneF (cd k) ((pileF cd a b c pl k).1 (h - 2)) ((pileF cd a b c pl k).1 (h - 1))) := by
  simp only [pileF, if_neg c1, if_neg c2, pileF_h e]
theorem nI_decp {k : Nat} (h : 1 ≤ k) : nI k + Int32.ofInt (-1) = nI (k - 1) := by
  obtain ⟨q, rfl⟩ : ∃ q, k = q + 1 := ⟨k - 1, by omega⟩
  exact nI_dec q
theorem breatheF_o {g : Nat → Int32} {j : Nat} (h : j < 28 ∨ 36 ≤ j) : breatheF g j = g j := by
  simp only [breatheF]
  rw [evenF_o 7 (by omega), airF_o h]
theorem restF_o {g : Nat → Int32} {j : Nat} {nm nv : Nat} (hnm : g 1 = nI nm) (h16 : nm ≤ 16) (hnv : g 2 = nI nv) (h12 : nv ≤ 12) (hv : ∀ i, i < nv → ∃ q, q < 8 ∧ g (116 + 3 * i) = nI q) (h : (0 < j ∧ j < 20) ∨ (28 ≤ j ∧ j < 36) ∨ 116 ≤ j) : restF g j = g j := by
  have tnm : tN (nI nm) = nm := nI_clamp (by omega)
  have tnv : tN (nI nv) = nv := nI_clamp (by omega)
  have hv1 : ∀ i, i < nv → ∃ q, q < 8 ∧ (killF g 28 (g 10) nm) (116 + 3 * i) = nI q := fun i hi => by rw [killF_o nm (fun k hk => by omega)]; exact hv i hi
  have e2 : (killF g 28 (g 10) nm) 2 = nI nv := by rw [killF_o nm (fun k hk => by omega)]; exact hnv
  have e1 : evenF (floodF (killF g 28 (g 10) nm) nv) 20 7 1 = nI nm := by rw [evenF_o 7 (by omega), floodF_o nv hv1 (by omega), killF_o nm (fun k hk => by omega)]; exact hnm
  simp only [restF, hnm, tnm, e2, tnv, e1]
  simp only [upd, if_neg (show ¬ j = 0 by omega)]
  rw [killF_o nm (fun k hk => by omega), evenF_o 7 (by omega), floodF_o nv hv1 (by omega), killF_o nm (fun k hk => by omega)]
/-- what minutes leave as it was -/
theorem goF_o {g : Nat → Int32} (hg : gOk g) {j : Nat} (h : (0 < j ∧ j < 20) ∨ 116 ≤ j) : ∀ k, goF g k j = g j
  | 0 => rfl
  | k + 1 => by
    have hg2 := hg
    obtain ⟨-, ⟨nm, h16, hnm⟩, ⟨nv, h12, hnv, hv⟩, -⟩ := hg
    have e : ∀ i, (0 < i ∧ i < 20) ∨ 116 ≤ i → breatheF (goF g k) i = g i := fun i hi => by rw [breatheF_o (by omega), goF_o hg2 hi k]
    show restF (breatheF (goF g k)) j = g j
    rw [restF_o (nm := nm) (nv := nv) (by rw [e _ (by omega)]; exact hnm) h16 (by rw [e _ (by omega)]; exact hnv) h12 (fun i hi => by rw [e _ (by omega)]; exact hv i hi) (by omega), e _ h]
theorem goOk {g : Nat → Int32} (hg : gOk g) {nm nv : Nat} (hnm : g 1 = nI nm) (hnv : g 2 = nI nv) (hv : ∀ i, i < nv → ∃ q, q < 8 ∧ g (116 + 3 * i) = nI q) (k : Nat) : goF g k 1 = nI nm ∧ goF g k 2 = nI nv ∧ (∀ i, i < nv → ∃ q, q < 8 ∧ goF g k (116 + 3 * i) = nI q) ∧ ∀ u, u < 4 → txOk (goF g k) u :=
  ⟨by rw [goF_o hg (by omega)]; exact hnm, by rw [goF_o hg (by omega)]; exact hnv, fun i hi => by rw [goF_o hg (by omega)]; exact hv i hi, fun u hu => txOk_congr (fun j hj => goF_o hg (by omega) k) (hg.2.2.2 u hu)⟩
def sMinute (g : Nat → Int32) (nn : Int32) : zS := if inR nn 1 600 then (if 2399 < tN (g 0) + tN nn then (3, 0, g) else (0, goF g (tN nn) 0, goF g (tN nn))) else (1, 0, g)
/-- whether no air changes any more -/
def stillM (g : Nat → Int32) : Nat → Int32
  | 0 => 1
  | k + 1 => if stillM g k ≠ 0 ∧ ¬ inR (g (36 + 5 * k)) 0 7 then 1 else 0
def stillD (g : Nat → Int32) (x : Int32) : Nat → Int32
  | 0 => x
  | d + 1 => if stillD g x d ≠ 0 ∧ (g (13 + d) = 0 ∨ g (28 + d) - g (28 + d + 1) = 0 ∨ g (28 + d) - g (28 + d + 1) = 1) then 1 else 0
def stillF (g : Nat → Int32) : Int32 := stillD g (stillM g (tN (g 1))) 7
/-- the first of i minutes after which a room's air is bad -/
def lastG (a : Nat) (g : Nat → Int32) : Nat → Int32
  | 0 => -1000002
  | i + 1 => if lastG a g i = -1000002 then (if breatheF (goF g i) 10 ≤ breatheF (goF g i) (28 + a) then nI (i + 1) else -1000002) else lastG a g i
def sLast (g : Nat → Int32) (room : Int32) : zS := if inR room 0 7 then (if g 10 ≤ g (28 + tN room) then (0, 0, g) else if lastG (tN room) g (2399 - tN (g 0)) = -1000002 then (2, 0, g) else (0, lastG (tN room) g (2399 - tN (g 0)), g)) else (1, 0, g)
def sDead (g : Nat → Int32) (nn : Int32) : zS := if inR nn 1 600 then (if 2399 < tN (g 0) + tN nn then (3, 0, g) else (0, bitsF (menF (goF g (tN nn)) 10 (tN (g 1))) 16, g)) else (1, 0, g)
theorem goF_0 {g : Nat → Int32} (hg : gOk g) {k0 : Nat} (h0 : g 0 = nI k0) : ∀ k, goF g k 0 = nI (k0 + k)
  | 0 => h0
  | k + 1 => by
    have ih := goF_0 hg h0 k
    have hg2 := hg
    obtain ⟨-, ⟨nm, h16, hnm⟩, ⟨nv, h12, hnv, hv⟩, -⟩ := hg
    have tnm : tN (nI nm) = nm := nI_clamp (by omega)
    have tnv : tN (nI nv) = nv := nI_clamp (by omega)
    have e : ∀ i, (0 < i ∧ i < 20) ∨ 116 ≤ i → breatheF (goF g k) i = g i := fun i hi => by rw [breatheF_o (by omega), goF_o hg2 hi k]
    have e1 : breatheF (goF g k) 1 = nI nm := by rw [e _ (by omega)]; exact hnm
    have e2 : breatheF (goF g k) 2 = nI nv := by rw [e _ (by omega)]; exact hnv
    have e0 : breatheF (goF g k) 0 = nI (k0 + k) := by rw [breatheF_o (by omega)]; exact ih
    have hv0 : ∀ i, i < nv → ∃ q, q < 8 ∧ breatheF (goF g k) (116 + 3 * i) = nI q := fun i hi => by rw [e _ (by omega)]; exact hv i hi
    show restF (breatheF (goF g k)) 0 = _
    generalize breatheF (goF g k) = b at e0 e1 e2 hv0
    have hv1 : ∀ i, i < nv → ∃ q, q < 8 ∧ (killF b 28 (b 10) nm) (116 + 3 * i) = nI q := fun i hi => by rw [killF_o nm (fun k hk => by omega)]; exact hv0 i hi
    have e3 : (killF b 28 (b 10) nm) 2 = nI nv := by rw [killF_o nm (fun k hk => by omega)]; exact e2
    have e4 : evenF (floodF (killF b 28 (b 10) nm) nv) 20 7 1 = nI nm := by rw [evenF_o 7 (by omega), floodF_o nv hv1 (by omega), killF_o nm (fun k hk => by omega)]; exact e1
    simp only [restF, e1, tnm, e3, tnv, e4]
    simp only [upd, if_pos]
    rw [killF_o nm (fun k hk => by omega), evenF_o 7 (by omega), floodF_o nv hv1 (by omega), killF_o nm (fun k hk => by omega), e0]
    exact nI_1 _
theorem lastG_mono {a : Nat} {g : Nat → Int32} {i : Nat} (h : lastG a g i ≠ -1000002) : ∀ d, lastG a g (i + d) = lastG a g i
  | 0 => rfl
  | d + 1 => by
    show (if lastG a g (i + d) = -1000002 then _ else lastG a g (i + d)) = _
    rw [lastG_mono h d, if_neg h]
theorem stillM_01 {g : Nat → Int32} : ∀ k, stillM g k = 0 ∨ stillM g k = 1
  | 0 => Or.inr rfl
  | k + 1 => by simp only [stillM]; split <;> simp
theorem stillD_01 {g : Nat → Int32} {x : Int32} (hx : x = 0 ∨ x = 1) : ∀ k, stillD g x k = 0 ∨ stillD g x k = 1
  | 0 => hx
  | k + 1 => by simp only [stillD]; split <;> simp
theorem stillD_nar {g : Nat → Int32} {x : Int32} (hx : x = 0 ∨ x = 1) (k : Nat) : narrow .boolean (.int (stillD g x k)) = .int (stillD g x k) := by
  rcases stillD_01 (g := g) hx k with h | h <;> rw [h] <;> decide
theorem upd_all {f h : Nat → Int32} {k : Nat} (hh : ∀ j, j < k → h j = f j) : ∀ j, j < k + 1 → upd h k (f k) j = f j := fun j hj => by
  by_cases e : j = k
  · rw [e]; exact ld_self
  · exact ld_ne e (hh j (by omega))
