/-! M's texts as pure words: where it stands, whether it is wrong, the codes, how many -/
set_option maxRecDepth 100000
abbrev zP : Type := Nat × Bool × (Nat → Int32) × Nat
def hereF (g : Nat → Int32) (n : Nat) (s : zP) : Int32 := if s.2.1 = false ∧ s.1 < n then g (324 + s.1) else -1
def advF (s : zP) : zP := (s.1 + 1, s.2)
def wrgF (s : zP) : zP := (s.1, true, s.2.2)
def emF (v : Int32) (s : zP) : zP := if s.2.1 = true then s else (s.1, s.2.1, upd s.2.2.1 s.2.2.2 v, s.2.2.2 + 1)
def tkF (g : Nat → Int32) (n : Nat) (c : Int32) (s : zP) : zP := if hereF g n s = c then advF s else s
def sgL : List (Int32 × Int32) → Int32 → Int32
  | [], _ => 0
  | (c, o) :: L, x => if x = c then o else sgL L x
def lpF (g : Nat → Int32) (n : Nat) (L : List (Int32 × Int32)) (sub : zP → zP) : Nat → zP → zP
  | 0, s => s
  | f + 1, s => if sgL L (hereF g n s) = 0 then s else lpF g n L sub f (emF (sgL L (hereF g n s)) (sub (advF s)))
def nuF (g : Nat → Int32) (n : Nat) (s : zP) : Nat → Int32 × zP
  | 0 => (0, s)
  | k + 1 => let q := nuF g n s k; if inR (hereF g n q.2) 48 57 then (10 * q.1 + hereF g n q.2 - 48, advF q.2) else q
def nmF (u : Nat) (c : Int32) : Nat → Int32
  | 0 => -1
  | k + 1 => if chS u k = c then nI k else nmF u c k
def nameF (u : Nat) (c : Int32) : Int32 := if c < 0 then -1 else nmF u c (zLen.getD u 0)
/-- one: what `deep` does behind a sign that opens -/
def oneB (u : Nat) (g : Nat → Int32) (n : Nat) (deep : zP → zP) (s : zP) : zP :=
  if hereF g n s = 33 ∨ hereF g n s = 40 then deep s
  else if inR (hereF g n s) 48 57 then emF (nuF g n s 4).1 (nuF g n s 4).2
  else if s.2.1 = true ∨ nameF u (hereF g n s) < 0 then wrgF s else advF (emF (10000 + nameF u (hereF g n s)) s)
section Lv
variable (g : Nat → Int32) (n : Nat) (sub : zP → zP)
def prodF (s : zP) : zP := lpF g n [(42, 20007), (47, 20008), (37, 20009)] sub 51 (sub s)
def sumF (s : zP) : zP := lpF g n [(43, 20005), (45, 20006)] (prodF g n sub) 51 (prodF g n sub s)
def cmpF (s : zP) : zP := let t := sumF g n sub s; if sgL [(60, 20002), (61, 20003), (62, 20004)] (hereF g n t) = 0 then t else emF (sgL [(60, 20002), (61, 20003), (62, 20004)] (hereF g n t)) (sumF g n sub (advF t))
def bothF (s : zP) : zP := lpF g n [(38, 20001)] (cmpF g n sub) 51 (cmpF g n sub s)
def eithF (s : zP) : zP := lpF g n [(124, 20000)] (bothF g n sub) 51 (bothF g n sub s)
end Lv
/-- behind a sign that opens -/
def deepF (g : Nat → Int32) (n : Nat) (one : zP → zP) (s : zP) : zP :=
  if hereF g n s = 33 then emF 20010 (one (s.1 + 1, false, s.2.2))
  else if hereF g n (eithF g n one (s.1 + 1, false, s.2.2)) = 41 then ((eithF g n one (s.1 + 1, false, s.2.2)).1 + 1, false, (eithF g n one (s.1 + 1, false, s.2.2)).2.2) else wrgF (eithF g n one (s.1 + 1, false, s.2.2))
def oneF (u : Nat) (g : Nat → Int32) (n : Nat) : Nat → zP → zP
  | 0 => oneB u g n wrgF
  | k + 1 => oneB u g n (deepF g n (oneF u g n k))
/-- a part of the reader goes on, not beyond the end, and gives no more codes than it reads -/
def gdP (n : Nat) (sub : zP → zP) : Prop := ∀ s : zP, s.1 ≤ n → s.2.2.2 ≤ s.1 → s.1 ≤ (sub s).1 ∧ (sub s).1 ≤ n ∧ (sub s).2.2.2 + s.1 ≤ s.2.2.2 + (sub s).1
theorem here_lt {g : Nat → Int32} {n : Nat} {s : zP} (h : hereF g n s ≠ -1) : s.2.1 = false ∧ s.1 < n := by
  unfold hereF at h
  split at h
  · assumption
  · exact absurd rfl h
theorem emF_1 {v : Int32} {s : zP} : (emF v s).1 = s.1 := by unfold emF; split <;> rfl
theorem emF_3 {v : Int32} {s : zP} : (emF v s).2.2.2 ≤ s.2.2.2 + 1 := by unfold emF; split <;> simp
theorem sgL_m1 {L : List (Int32 × Int32)} (h : ∀ q ∈ L, q.1 ≠ -1) : sgL L (-1) = 0 := by
  induction L with
  | nil => rfl
  | cons q L ih =>
    obtain ⟨c, o⟩ := q
    simp only [sgL]
    rw [if_neg (fun e => h (c, o) List.mem_cons_self e.symm)]
    exact ih (fun q hq => h q (List.mem_cons_of_mem _ hq))
theorem gd_step {n : Nat} {g : Nat → Int32} {sub : zP → zP} (hs : gdP n sub) {L : List (Int32 × Int32)} (hL : ∀ q ∈ L, q.1 ≠ -1) {s : zP} (h1 : s.1 ≤ n) (h2 : s.2.2.2 ≤ s.1) (hx : ¬ sgL L (hereF g n s) = 0) {v : Int32} :
    s.1 < n ∧ s.1 + 1 ≤ (emF v (sub (advF s))).1 ∧ (emF v (sub (advF s))).1 ≤ n ∧ (emF v (sub (advF s))).2.2.2 + s.1 ≤ s.2.2.2 + (emF v (sub (advF s))).1 ∧ (sub (advF s)).2.2.2 < (sub (advF s)).1 := by
  have hl := (here_lt (g := g) (n := n) (s := s) (fun e => hx (by rw [e]; exact sgL_m1 hL))).2
  obtain ⟨a1, a2, a3⟩ := hs (advF s) (show s.1 + 1 ≤ n from hl) (show s.2.2.2 ≤ s.1 + 1 by omega)
  have a1' : s.1 + 1 ≤ (sub (advF s)).1 := a1
  have a3' : (sub (advF s)).2.2.2 + (s.1 + 1) ≤ s.2.2.2 + (sub (advF s)).1 := a3
  have b1 := emF_1 (v := v) (s := sub (advF s))
  have b3 := emF_3 (v := v) (s := sub (advF s))
  exact ⟨hl, by omega, by omega, by omega, by omega⟩
theorem gd_lp {n : Nat} {g : Nat → Int32} {sub : zP → zP} (hs : gdP n sub) {L : List (Int32 × Int32)} (hL : ∀ q ∈ L, q.1 ≠ -1) : ∀ f, gdP n (lpF g n L sub f)
  | 0, s, h1, h2 => ⟨Nat.le_refl _, h1, by show s.2.2.2 + s.1 ≤ s.2.2.2 + s.1; omega⟩
  | f + 1, s, h1, h2 => by
    simp only [lpF]
    split
    · exact ⟨Nat.le_refl _, h1, by omega⟩
    · rename_i hx
      obtain ⟨b0, b1, b2, b3, -⟩ := gd_step (v := sgL L (hereF g n s)) hs hL h1 h2 hx
      obtain ⟨c1, c2, c3⟩ := gd_lp (g := g) hs hL f _ b2 (by omega)
      exact ⟨by omega, c2, by omega⟩
theorem gd_comp {n : Nat} {a b : zP → zP} (ha : gdP n a) (hb : gdP n b) : gdP n (fun s => b (a s)) := fun s h1 h2 => by
  obtain ⟨a1, a2, a3⟩ := ha s h1 h2
  obtain ⟨b1, b2, b3⟩ := hb (a s) a2 (by omega)
  refine ⟨?_, b2, ?_⟩
  · show s.1 ≤ (b (a s)).1; omega
  · show (b (a s)).2.2.2 + s.1 ≤ s.2.2.2 + (b (a s)).1; omega
theorem gd_lpc {n : Nat} {g : Nat → Int32} {sub : zP → zP} (hs : gdP n sub) {L : List (Int32 × Int32)} (hL : ∀ q ∈ L, q.1 ≠ -1) : gdP n (fun s => lpF g n L sub 51 (sub s)) := gd_comp (b := lpF g n L sub 51) hs (gd_lp hs hL 51)
theorem gd_prod {n : Nat} {g : Nat → Int32} {sub : zP → zP} (hs : gdP n sub) : gdP n (prodF g n sub) := gd_lpc hs (by decide)
theorem gd_sum {n : Nat} {g : Nat → Int32} {sub : zP → zP} (hs : gdP n sub) : gdP n (sumF g n sub) := gd_lpc (gd_prod hs) (by decide)
theorem gd_cmp {n : Nat} {g : Nat → Int32} {sub : zP → zP} (hs : gdP n sub) : gdP n (cmpF g n sub) := fun s h1 h2 => by
  obtain ⟨a1, a2, a3⟩ := gd_sum (g := g) hs s h1 h2
  unfold cmpF
  simp only
  split
  · exact ⟨a1, a2, a3⟩
  · rename_i hx
    obtain ⟨b0, b1, b2, b3, -⟩ := gd_step (v := sgL [(60, 20002), (61, 20003), (62, 20004)] (hereF g n (sumF g n sub s))) (gd_sum (g := g) hs) (by decide) a2 (by omega) hx
    exact ⟨by omega, b2, by omega⟩
theorem gd_both {n : Nat} {g : Nat → Int32} {sub : zP → zP} (hs : gdP n sub) : gdP n (bothF g n sub) := gd_lpc (gd_cmp hs) (by decide)
theorem gd_eith {n : Nat} {g : Nat → Int32} {sub : zP → zP} (hs : gdP n sub) : gdP n (eithF g n sub) := gd_lpc (gd_both hs) (by decide)
theorem nuF_b {g : Nat → Int32} {n : Nat} {s : zP} (h1 : s.1 ≤ n) : ∀ k, s.1 ≤ (nuF g n s k).2.1 ∧ (nuF g n s k).2.1 ≤ n ∧ (nuF g n s k).2.2 = s.2
  | 0 => ⟨Nat.le_refl _, h1, rfl⟩
  | k + 1 => by
    obtain ⟨a1, a2, a3⟩ := nuF_b (g := g) (n := n) (s := s) h1 k
    simp only [nuF]
    split
    · rename_i hx
      have hl := (here_lt (g := g) (n := n) (s := (nuF g n s k).2) (fun e => by rw [e] at hx; exact absurd hx.1 (by decide))).2
      refine ⟨?_, hl, a3⟩
      show s.1 ≤ (nuF g n s k).2.1 + 1; omega
    · exact ⟨a1, a2, a3⟩
theorem nuF_1 {g : Nat → Int32} {n : Nat} {s : zP} (h : inR (hereF g n s) 48 57) (h1 : s.1 ≤ n) : s.1 + 1 ≤ (nuF g n s 4).2.1 := by
  have e : (nuF g n s 1).2 = advF s := congrArg Prod.snd (if_pos h)
  have hl := (here_lt (g := g) (n := n) (s := s) (fun e => by rw [e] at h; exact absurd h.1 (by decide))).2
  have m1 : ∀ d, s.1 + 1 ≤ (nuF g n s (1 + d)).2.1 := fun d => by
    induction d with
    | zero => rw [e]; exact Nat.le_refl _
    | succ d ih =>
      rw [← Nat.add_assoc]
      simp only [nuF]
      split
      · show s.1 + 1 ≤ (nuF g n s (1 + d)).2.1 + 1; omega
      · exact ih
  exact m1 3
theorem nuF_end {g : Nat → Int32} {n k : Nat} {s : zP} (h : ¬ inR (hereF g n (nuF g n s k).2) 48 57) : ∀ d, nuF g n s (k + d) = nuF g n s k
  | 0 => rfl
  | d + 1 => by
    rw [← Nat.add_assoc]
    simp only [nuF]
    rw [nuF_end h d]
    exact if_neg h
theorem gd_oneB {u : Nat} {g : Nat → Int32} {n : Nat} {deep : zP → zP} (hd : ∀ s : zP, (hereF g n s = 33 ∨ hereF g n s = 40) → s.1 ≤ n → s.2.2.2 ≤ s.1 → s.1 ≤ (deep s).1 ∧ (deep s).1 ≤ n ∧ (deep s).2.2.2 + s.1 ≤ s.2.2.2 + (deep s).1) : gdP n (oneB u g n deep) := fun s h1 h2 => by
  unfold oneB
  split
  · rename_i hx; exact hd s hx h1 h2
  · split
    · rename_i hx
      obtain ⟨a1, a2, a3⟩ := nuF_b (g := g) (n := n) (s := s) h1 4
      have a4 := nuF_1 hx h1
      have b1 := emF_1 (v := (nuF g n s 4).1) (s := (nuF g n s 4).2)
      have b3 := emF_3 (v := (nuF g n s 4).1) (s := (nuF g n s 4).2)
      have e3 : (nuF g n s 4).2.2.2.2 = s.2.2.2 := by rw [a3]
      exact ⟨by omega, by omega, by omega⟩
    · split
      · exact ⟨Nat.le_refl _, h1, by show s.2.2.2 + s.1 ≤ s.2.2.2 + s.1; omega⟩
      · rename_i hx
        have hn : hereF g n s ≠ -1 := fun e => hx (Or.inr (by rw [e]; unfold nameF; rw [if_pos (by decide)]; decide))
        have hl := (here_lt hn).2
        have b1 := emF_1 (v := 10000 + nameF u (hereF g n s)) (s := s)
        have b3 := emF_3 (v := 10000 + nameF u (hereF g n s)) (s := s)
        refine ⟨?_, ?_, ?_⟩
        · show s.1 ≤ (emF _ s).1 + 1; omega
        · show (emF _ s).1 + 1 ≤ n; omega
        · show (emF _ s).2.2.2 + s.1 ≤ s.2.2.2 + ((emF _ s).1 + 1); omega
theorem gd_deep {g : Nat → Int32} {n : Nat} {q s : zP} (h : s.1 + 1 ≤ q.1 ∧ q.1 ≤ n ∧ q.2.2.2 + (s.1 + 1) ≤ s.2.2.2 + q.1) :
    s.1 ≤ (if hereF g n q = 41 then (q.1 + 1, false, q.2.2) else wrgF q).1 ∧ (if hereF g n q = 41 then (q.1 + 1, false, q.2.2) else wrgF q).1 ≤ n ∧ (if hereF g n q = 41 then (q.1 + 1, false, q.2.2) else wrgF q).2.2.2 + s.1 ≤ s.2.2.2 + (if hereF g n q = 41 then (q.1 + 1, false, q.2.2) else wrgF q).1 := by
  obtain ⟨a1, a2, a3⟩ := h
  split
  · rename_i hx
    have hl2 := (here_lt (g := g) (n := n) (s := q) (fun e => by rw [e] at hx; exact absurd hx (by decide))).2
    exact ⟨by show s.1 ≤ q.1 + 1; omega, hl2, by show q.2.2.2 + s.1 ≤ s.2.2.2 + (q.1 + 1); omega⟩
  · exact ⟨by show s.1 ≤ q.1; omega, a2, by show q.2.2.2 + s.1 ≤ s.2.2.2 + q.1; omega⟩
theorem gd_deepF {g : Nat → Int32} {n : Nat} {one : zP → zP} (ih : gdP n one) {s : zP} (hc : hereF g n s = 33 ∨ hereF g n s = 40) (h1 : s.1 ≤ n) (h2 : s.2.2.2 ≤ s.1) : s.1 ≤ (deepF g n one s).1 ∧ (deepF g n one s).1 ≤ n ∧ (deepF g n one s).2.2.2 + s.1 ≤ s.2.2.2 + (deepF g n one s).1 := by
  have hl := (here_lt (g := g) (n := n) (s := s) (fun e => by rw [e] at hc; rcases hc with h | h <;> exact absurd h (by decide))).2
  have i1 := ih (s.1 + 1, false, s.2.2) hl (by show s.2.2.2 ≤ s.1 + 1; omega)
  have i2 := gd_eith (g := g) ih (s.1 + 1, false, s.2.2) hl (by show s.2.2.2 ≤ s.1 + 1; omega)
  unfold deepF
  generalize one (s.1 + 1, false, s.2.2) = q1 at i1 ⊢
  generalize eithF g n one (s.1 + 1, false, s.2.2) = q2 at i2 ⊢
  split
  · obtain ⟨a1, a2, a3⟩ := i1
    have a1' : s.1 + 1 ≤ q1.1 := a1
    have a3' : q1.2.2.2 + (s.1 + 1) ≤ s.2.2.2 + q1.1 := a3
    have b1 := emF_1 (v := 20010) (s := q1)
    have b3 := emF_3 (v := 20010) (s := q1)
    exact ⟨by omega, by omega, by omega⟩
  · exact gd_deep i2
theorem gd_one {u : Nat} {g : Nat → Int32} {n : Nat} : ∀ k, gdP n (oneF u g n k)
  | 0 => gd_oneB (fun s _ h1 h2 => ⟨Nat.le_refl _, h1, by show s.2.2.2 + s.1 ≤ s.2.2.2 + s.1; omega⟩)
  | k + 1 => gd_oneB (fun s hc h1 h2 => gd_deepF (gd_one (u := u) (g := g) (n := n) k) hc h1 h2)
/-- a text's codes are laid into the row -/
def txPut (_h cd : Nat → Int32) (at0 : Nat) (h : Nat → Int32) : Nat → (Nat → Int32)
  | 0 => h
  | k + 1 => upd (txPut _h cd at0 h k) (at0 + k) (cd k)
def sText (g cd0 : Nat → Int32) (u : Int32) : zS :=
  if inR u 0 3 then
    let n := tN (g 6)
    let q := eithF g n (oneF (tN u) g n 5) (0, false, cd0, 0)
    let h := upd g 6 0
    if q.2.1 = true ∨ q.1 < n then (0, -10 - nI q.1, h)
    else (0, 1, txPut h q.2.2.1 (394 + 52 * tN u + 1) (upd h (394 + 52 * tN u) (nI q.2.2.2)) q.2.2.2)
  else (1, 0, g)
theorem lp_end {g : Nat → Int32} {n : Nat} {L : List (Int32 × Int32)} {sub : zP → zP} {t : zP} (h : sgL L (hereF g n t) = 0) : ∀ f, lpF g n L sub f t = t
  | 0 => rfl
  | f + 1 => by simp only [lpF]; rw [if_pos h]
theorem sg_le {L : List (Int32 × Int32)} {x is : Int32} (h : is = sgL L x) (hL : ∀ q ∈ L, 0 < q.2) (h0 : is ≤ 0) : is = 0 := by
  subst h
  induction L with
  | nil => rfl
  | cons q L ih =>
    obtain ⟨c, o⟩ := q
    simp only [sgL] at h0 ⊢
    split at h0
    · exact absurd h0 (Int32.not_le.mpr (hL (c, o) List.mem_cons_self))
    · rename_i hc; rw [if_neg hc]; exact ih (fun q hq => hL q (List.mem_cons_of_mem _ hq)) h0
