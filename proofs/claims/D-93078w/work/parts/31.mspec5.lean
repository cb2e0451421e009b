/-! M's plans, causes, sheets, tables as pure words -/
set_option maxRecDepth 100000
def crB (g : Nat → Int32) (a : Nat) (s : Int32 × Int32) : Nat → Int32 × Int32
  | 0 => s
  | b + 1 =>
    let q := crB g a s b
    let fr := maxI (g (224 + 3 * a)) (g (254 + 3 * b))
    if (g (224 + 3 * a + 2) = g (254 + 3 * b + 2) ∧ fr ≤ g (224 + 3 * a + 1) ∧ fr ≤ g (254 + 3 * b + 1)) ∧ (fr < q.1 ∨ fr = q.1 ∧ g (224 + 3 * a + 2) < q.2) then (fr, g (224 + 3 * a + 2)) else q
def crA (g : Nat → Int32) (n2 : Nat) : Nat → Int32 × Int32
  | 0 => (1000000, 0)
  | a + 1 => crB g a (crA g n2 a) n2
def sCross (g : Nat → Int32) (what : Int32) : zS :=
  if inR what 0 1 then (if (crA g (tN (g 12)) (tN (g 11))).1 = 1000000 then (2, 0, g) else (0, if what = 0 then (crA g (tN (g 12)) (tN (g 11))).1 else (crA g (tN (g 12)) (tN (g 11))).2, g)) else (1, 0, g)
def mbV (g : Nat → Int32) (c : Nat) : Nat → Int32
  | 0 => 1
  | v + 1 => if mbV g c v ≠ 0 ∧ ¬ (g (312 + v) = 1 ∧ hasB (g (292 + 2 * c + 1)) (nI v)) ∧ ¬ (g (312 + v) = 0 ∧ hasB (g (292 + 2 * c)) (nI v)) then 1 else 0
def mbF (g : Nat → Int32) : Nat → Int32
  | 0 => 0
  | c + 1 => mbF g c ||| (if mbV g c 12 ≠ 0 then bitI c else 0)
def sWhy (g : Nat → Int32) : zS := (0, mbF g (tN (g 5)), g)
/-- how many causes may be at most behind a valve -/
def lkM (g : Nat → Int32) (nc v : Nat) : Int32 := maxI (bitsF (mbF (upd g (312 + v) 1) nc) 16) (bitsF (mbF (upd g (312 + v) 0) nc) 16)
def lkF (g : Nat → Int32) (nc : Nat) : Nat → Int32 × Int32
  | 0 => (-1000002, 0)
  | v + 1 => let q := lkF g nc v; if (1 < bitsF (mbF g nc) 16 ∧ g (312 + v) < 0) ∧ (q.1 < 0 ∨ lkM g nc v < q.2) then (nI v, lkM g nc v) else q
theorem lkF_few {g : Nat → Int32} {nc : Nat} (h : ¬ 1 < bitsF (mbF g nc) 16) : ∀ v, lkF g nc v = (-1000002, 0)
  | 0 => rfl
  | v + 1 => by simp only [lkF]; rw [if_neg (fun q => h q.1.1)]; exact lkF_few h v
def sLook (g : Nat → Int32) : zS := if (lkF g (tN (g 5)) 12).1 < 0 then (2, 0, g) else (0, (lkF g (tN (g 5)) 12).1, g)
theorem upd_upd {f : Nat → Int32} {k : Nat} {x y : Int32} : upd (upd f k x) k y = upd f k y := by
  funext j
  simp only [upd]
  split <;> rfl
theorem upd_back {f : Nat → Int32} {k : Nat} {x y : Int32} (h : f k = y) : upd (upd f k x) k y = f := by
  funext j
  simp only [upd]
  split
  · rename_i e; rw [e, h]
  · rfl
def sRestore (g kp : Nat → Int32) (im : Int32) : zS := if im = 0 then (2, 0, g) else (0, kp 0, kp)
def fdF (g : Nat → Int32) (word : Int64) (n0 : Nat) : Nat → (Nat → Int32)
  | 0 => g
  | k + 1 => upd (upd (fdF g word n0 k) (324 + (n0 + k)) ((word >>> ((nI (8 * k)).toInt64 &&& 63)) &&& 255).toInt32) 6 (nI (n0 + k + 1))
def sFeed (g : Nat → Int32) (word : Int64) (nn : Int32) : zS := if inR nn 1 8 then (if 50 < tN (g 6) + tN nn then (4, 0, g) else (0, nI (tN (g 6) + tN nn), fdF g word (tN (g 6)) (tN nn))) else (1, 0, g)
theorem fdF_6 {g : Nat → Int32} {word : Int64} {n0 : Nat} (h : g 6 = nI n0) : ∀ k, fdF g word n0 k 6 = nI (n0 + k)
  | 0 => h
  | k + 1 => by simp only [fdF]; exact ld_self
def sTrace (g tr : Nat → Int32) (tc x : Int32) : zS := if inR x 0 (tc - 1) then (0, tr (tN x), g) else (2, 0, g)
/-- an act on sheets: error, answer, widths, sizes, numbers -/
abbrev zT : Type := Nat × Int32 × (Nat → Int32) × (Nat → Int32) × (Nat → Int32)
abbrev rT (q : zT) : Int32 := rOf (q.1, q.2.1, fun _ => 0)
abbrev eT (er : Nat → Int32) (q : zT) : Nat → Int32 := eOf er (q.1, q.2.1, fun _ => 0)
def zeF (nb : Nat → Int32) (s : Nat) : Nat → (Nat → Int32)
  | 0 => nb
  | k + 1 => upd (zeF nb s k) (40 * s + k) 0
def sSheet (wd sz nb : Nat → Int32) (s bits nn : Int32) : zT :=
  if inR s 0 3 ∧ (bits = 0 ∨ bits = 8 ∨ bits = 16 ∨ bits = 32) then
    (if ¬ bits = 0 ∧ nn < 0 then (3, 0, wd, sz, nb) else if ¬ bits = 0 ∧ 40 < nn then (1, 0, wd, sz, nb)
     else (0, 1, upd wd (tN s) bits, upd sz (tN s) (if bits = 0 then 0 else nn), zeF nb (tN s) 40)) else (1, 0, wd, sz, nb)
def narW (w v : Int32) : Int32 := if w = 8 then v.toInt8.toInt32 else if w = 16 then v.toInt16.toInt32 else v
def sPut (wd sz nb : Nat → Int32) (s x v : Int32) : zT :=
  if inR s 0 3 then (if wd (tN s) = 0 then (2, 0, wd, sz, nb) else if inR x 0 (sz (tN s) - 1) then (0, 1, wd, sz, upd nb (40 * tN s + tN x) (narW (wd (tN s)) v)) else (1, 0, wd, sz, nb)) else (1, 0, wd, sz, nb)
def mvF (nb : Nat → Int32) (a b : Nat) : Nat → (Nat → Int32)
  | 0 => nb
  | k + 1 => upd (mvF nb a b k) (b + k) (nb (a + k))
def sMove (wd sz nb : Nat → Int32) (s x o y nn : Int32) : zT :=
  if inR s 0 3 ∧ inR o 0 3 then (if wd (tN s) = 0 ∨ wd (tN o) = 0 then (2, 0, wd, sz, nb) else if ¬ wd (tN s) = wd (tN o) then (5, 0, wd, sz, nb)
    else if 0 ≤ nn ∧ 0 ≤ x ∧ 0 ≤ y ∧ tN x + tN nn ≤ tN (sz (tN s)) ∧ tN y + tN nn ≤ tN (sz (tN o)) then (0, nn, wd, sz, mvF nb (40 * tN s + tN x) (40 * tN o + tN y) (tN nn)) else (1, 0, wd, sz, nb)) else (1, 0, wd, sz, nb)
theorem toL_nI {k : Nat} (h : k < 2 ^ 31) : (nI k).toInt64.toInt = k := by
  rw [Int32.toInt_toInt64, nI_toInt h]
theorem lgc_nat {a b z : Nat} (ha : a < 2 ^ 31) (hb : b < 2 ^ 31) (hz : z < 2 ^ 31) : lg_cmp ((nI a).toInt64 + (nI b).toInt64) (nI z).toInt64 ≤ 0 ↔ a + b ≤ z := by
  have e1 : ((nI a).toInt64 + (nI b).toInt64).toInt = ((a + b : Nat) : Int) := by
    rw [Int64.toInt_add, toL_nI ha, toL_nI hb]
    rw [Int.bmod_eq_of_le] <;> omega
  unfold lg_cmp
  by_cases h : (nI z).toInt64 < (nI a).toInt64 + (nI b).toInt64
  · rw [if_pos h]
    have := Int64.lt_iff_toInt_lt.mp h
    rw [e1, toL_nI hz] at this
    constructor
    · intro h; exact absurd h (by decide)
    · intro h; omega
  · rw [if_neg h]
    have := (not_congr Int64.lt_iff_toInt_lt).mp h
    rw [e1, toL_nI hz] at this
    constructor
    · intro _; omega
    · intro _; split <;> decide
/-- letters of a row: letters, how many, where it stops, knocks, first -/
abbrev zL : Type := (Nat → Int32) × Nat × Int32 × Nat × Nat
def rdF (nb L0 : Nat → Int32) (base : Nat) : Nat → zL
  | 0 => (L0, 0, -1, 0, 0)
  | k + 1 =>
    let q := rdF nb L0 base k
    if 0 ≤ q.2.2.1 then q
    else if nb (base + k) = 1 ∧ q.2.2.2.1 < 5 then (q.1, q.2.1, q.2.2.1, q.2.2.2.1 + 1, q.2.2.2.2)
    else if ¬ nb (base + k) = 0 ∨ q.2.2.2.1 = 0 then (q.1, q.2.1, nI k, q.2.2.2.1, q.2.2.2.2)
    else if q.2.2.2.2 = 0 then (q.1, q.2.1, q.2.2.1, 0, q.2.2.2.1)
    else (upd q.1 q.2.1 (nI (5 * q.2.2.2.2 + q.2.2.2.1) - 6), q.2.1 + 1, q.2.2.1, 0, 0)
theorem rdF_b {nb L0 : Nat → Int32} {base : Nat} : ∀ k, (rdF nb L0 base k).2.1 ≤ k ∧ (rdF nb L0 base k).2.2.2.1 ≤ 5 ∧ (rdF nb L0 base k).2.2.2.2 ≤ 5
  | 0 => ⟨Nat.le_refl 0, Nat.zero_le 5, Nat.zero_le 5⟩
  | k + 1 => by
    have ih := rdF_b (nb := nb) (L0 := L0) (base := base) k
    simp only [rdF]
    split
    · exact ⟨by omega, ih.2⟩
    · split
      · rename_i h; exact ⟨by simp only; omega, by simp only; omega, ih.2.2⟩
      · split
        · exact ⟨by simp only; omega, ih.2⟩
        · split
          · exact ⟨by simp only; omega, by simp only; omega, ih.2.1⟩
          · exact ⟨by simp only; omega, by simp only; omega, by simp only; omega⟩
theorem rdF_stop {nb L0 : Nat → Int32} {base k : Nat} (h : 0 ≤ (rdF nb L0 base k).2.2.1) : ∀ d, rdF nb L0 base (k + d) = rdF nb L0 base k
  | 0 => rfl
  | d + 1 => by
    rw [← Nat.add_assoc]
    simp only [rdF]
    rw [rdF_stop h d]
    exact if_pos h
def rdS (q : zL) (z : Nat) : Int32 := if q.2.2.1 < 0 ∧ 0 < q.2.2.2.2 + q.2.2.2.1 then nI z else q.2.2.1
def sRead (g wd sz nb L0 : Nat → Int32) (s what : Int32) : zS :=
  if inR s 0 3 ∧ -2 ≤ what then
    (if wd (tN s) = 0 then (2, 0, g) else
      let z := tN (sz (tN s))
      let q := rdF nb L0 (40 * tN s) z
      if what = -1 then (0, nI q.2.1, g) else
        let v := if what = -2 then rdS q z else if what < nI q.2.1 then q.1 (tN what) else -1
        if v < 0 then (2, 0, g) else (0, v, g))
  else (1, 0, g)
/-- tables by hours from the last on: tables, waits, power -/
def tabF (g : Nat → Int32) (pq m : Int32) (tb : Nat → Int64) (wt : Nat → Int32) : Nat → (Nat → Int64) × (Nat → Int32) × Int64
  | 0 => (vp_updL tb 8 0, wt, 1)
  | d + 1 =>
    let s := tabF g pq m tb wt d
    let stay := (pq / 10 * m).toInt64 * s.2.2 + ((pq - pq / 10 * 10) - pq / 10).toInt64 * s.1 (7 - d + 1)
    let pw := s.2.2 * (pq - pq / 10 * 10).toInt64
    let go := (givenF g 3 (nI (7 - d)) (g (284 + (7 - d))) 0).toInt64 * pw
    (vp_updL s.1 (7 - d) (maxL go stay), upd s.2.1 (7 - d) (if lg_cmp stay go ≤ 0 then 0 else 1), pw)
/-- a long answer -/
def oR (q : Nat × Int64) : Int64 := if q.1 = 0 then q.2 else ((-1000000 : Int32) - nI q.1).toInt64
def oE (er : Nat → Int32) (q : Nat × Int64) : Nat → Int32 := eOf er (q.1, 0, fun _ => 0)
theorem oR_0 {x : Int64} : oR (0, x) = x := rfl
theorem oR_1 {x : Int64} : oR (1, x) = (-1000001 : Int32).toInt64 := (if_neg (by simp)).trans (congrArg Int32.toInt64 (by decide : (-1000000 : Int32) - nI 1 = -1000001))
abbrev tabH (g : Nat → Int32) (hour pq m top : Int32) : Prop := inR hour 0 top ∧ isPartP pq ∧ inR m 0 24
def sTable (g : Nat → Int32) (tb : Nat → Int64) (wt : Nat → Int32) (hour pq m : Int32) : Nat × Int64 := if tabH g hour pq m 8 then (0, (tabF g pq m tb wt 8).1 (tN hour)) else (1, 0)
def sDecide (g : Nat → Int32) (tb : Nat → Int64) (wt : Nat → Int32) (hour pq m : Int32) : zS := if tabH g hour pq m 7 then (0, if (tabF g pq m tb wt 8).2.1 (tN hour) = 0 then 0 else 1, g) else (1, 0, g)
