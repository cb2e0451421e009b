/-! M's world and the pure words for both sides: g is M's row 'now' -/
set_option maxRecDepth 100000
/-- M's fields: arrays at ad k, ints iv k (k: the field's number) -/
def mFs (ad : Nat → Nat) (iv : Nat → Int32) : List Value := [.ref (ad 0), .ref (ad 1), .ref (ad 2), .int (iv 3), .ref (ad 4), .ref (ad 5), .int (iv 6), .int (iv 7), .int (iv 8), .int (iv 9), .ref (ad 10), .int (iv 11), .ref (ad 12), .ref (ad 13), .int (iv 14), .ref (ad 15), .ref (ad 16), .ref (ad 17), .int (iv 18), .int (iv 19), .ref (ad 20), .ref (ad 21), .ref (ad 22), .int (iv 23), .int (iv 24), .ref (ad 25), .ref (ad 26), .ref (ad 27), .ref (ad 28)]
abbrev inR (v lo hi : Int32) : Prop := lo ≤ v ∧ v ≤ hi
/-- bit k of a set, as the program asks for it -/
abbrev dig (x : Int32) (k : Int32) : Int32 := (x >>> (k &&& 31)) &&& 1
abbrev hasB (x : Int32) (k : Int32) : Prop := dig x k = 1
theorem ld_self {f : Nat → Int32} {k : Nat} {x : Int32} : upd f k x k = x := by simp [upd]
theorem ld_ne {f : Nat → Int32} {k j : Nat} {x v : Int32} (h : j ≠ k) (h2 : f j = v) : upd f k x j = v := by simp [upd, h, h2]
theorem ld_is {f : Nat → Int32} {k j : Nat} {x : Int32} (h : j = k) : upd f k x j = x := by simp [upd, h]
/-- an act's outcome: the error's number (0: none), the answer, the row -/
abbrev zS : Type := Nat × Int32 × (Nat → Int32)
def rOf (q : zS) : Int32 := if q.1 = 0 then q.2.1 else (-1000000) - nI q.1
def eOf (er : Nat → Int32) (q : zS) : Nat → Int32 := if q.1 = 0 then er else upd er q.1 (er q.1 + 1)
theorem rOf_0 {r : Int32} {g : Nat → Int32} : rOf (0, r, g) = r := rfl
theorem eOf_0 {er : Nat → Int32} {r : Int32} {g : Nat → Int32} : eOf er (0, r, g) = er := rfl
theorem rOf_k {k : Nat} {r : Int32} {g : Nat → Int32} : rOf (k + 1, r, g) = (-1000000) - nI (k + 1) := rfl
theorem eOf_k {er : Nat → Int32} {k : Nat} {r : Int32} {g : Nat → Int32} : eOf er (k + 1, r, g) = upd er (k + 1) (er (k + 1) + 1) := rfl
abbrev tN (x : Int32) : Nat := x.toNatClampNeg
theorem tN_0 : tN 0 = 0 := by decide
theorem tN_1 : tN 1 = 1 := by decide
theorem tN_2 : tN 2 = 2 := by decide
theorem tN_3 : tN 3 = 3 := by decide
theorem tN_4 : tN 4 = 4 := by decide
/-- a value within known ends is a natural number -/
theorem inR_nat {x : Int32} {lo hi : Int32} (a b : Nat) (ha : lo = nI a) (hb : hi = nI b) (hb2 : b < 2 ^ 31) (hab : a ≤ b) (h : inR x lo hi) : ∃ j : Nat, a ≤ j ∧ j ≤ b ∧ x = nI j := by
  subst ha; subst hb
  obtain ⟨h1, h2⟩ := h
  have e1 := nI_toInt (n := a) (by omega)
  have e2 := nI_toInt hb2
  have g1 := Int32.le_iff_toInt_le.mp h1
  have g2 := Int32.le_iff_toInt_le.mp h2
  have h0 : ¬ x < 0 := by
    intro h
    have := Int32.lt_iff_toInt_lt.mp h
    have z : (0 : Int32).toInt = 0 := by decide
    omega
  obtain ⟨j, hj, rfl⟩ := nI_of h0
  have e3 := nI_toInt hj
  exact ⟨j, by omega, by omega, rfl⟩
theorem inR_nI {j a b : Nat} {lo hi : Int32} (ha : lo = nI a) (hb : hi = nI b) (hj : j < 2 ^ 31) (hb2 : b < 2 ^ 31) (ha2 : a < 2 ^ 31) : inR (nI j) lo hi ↔ a ≤ j ∧ j ≤ b := by
  subst ha; subst hb
  unfold inR
  rw [nI_leI ha2 hj, nI_leI hj hb2]
/-! ### the acts, as pure words -/
def sBoat (g : Nat → Int32) (what v : Int32) : zS := if what = 0 then (if inR v 1 300 then (0, g 9, upd g 9 v) else (1, 0, g)) else if what = 1 ∧ inR v 1 99999 then (0, g 10, upd g 10 v) else (1, 0, g)
/-- a man comes, as the nm-th -/
def comesF (g : Nat → Int32) (nm : Nat) (room cold knows : Int32) : Nat → Int32 := upd (upd (upd (upd (upd (upd g (36 + 5 * nm) room) (36 + 5 * nm + 1) 1) (36 + 5 * nm + 2) cold) (36 + 5 * nm + 3) knows) (36 + 5 * nm + 4) 2399) 1 (nI (nm + 1))
def sMan (g : Nat → Int32) (room cold knows : Int32) : zS := if inR room 0 7 ∧ inR cold 0 9 ∧ inR knows 0 1 then (if tN (g 1) = 16 then (4, 0, g) else (0, nI (tN (g 1)), comesF g (tN (g 1)) room cold knows)) else (1, 0, g)
def mostF (what : Int32) : Int32 := if what = 0 then 10 else if what = 1 then 2 else if what = 2 then 9 else if what = 3 then 1 else 2399
def sDoes (g : Nat → Int32) (man what v : Int32) : zS := if inR man 0 (g 1 - 1) ∧ inR what 0 4 ∧ inR v 0 (mostF what) then (if what = 0 ∧ g (36 + 5 * tN man) = 10 then (3, 0, g) else (0, g (36 + 5 * tN man + tN what), upd g (36 + 5 * tN man + tN what) v)) else (1, 0, g)
def sOf (g : Nat → Int32) (man what : Int32) : zS := if inR man 0 (g 1 - 1) ∧ inR what 0 4 then (0, g (36 + 5 * tN man + tN what), g) else (1, 0, g)
theorem is_nat {g : Nat → Int32} {k n : Nat} {x : Int32} (hn : g k = nI n) (hb : n < 2 ^ 31) (h : inR x 0 (g k - 1)) : ∃ j : Nat, j < n ∧ x = nI j := by
  rw [hn] at h
  cases n with
  | zero =>
    obtain ⟨h1, h2⟩ := h
    exact absurd (Int32.le_trans h1 h2) (by decide)
  | succ n =>
    rw [show nI (n + 1) - 1 = nI n from by rw [show (1 : Int32) = nI 1 by decide, pk_sub (by omega)]; rfl] at h
    obtain ⟨j, -, h2, h3⟩ := inR_nat 0 n (by decide) rfl (by omega) (by omega) h
    exact ⟨j, by omega, h3⟩
theorem is_not {g : Nat → Int32} {k n j : Nat} (hn : g k = nI n) (hj : j < n) (hb : n < 2 ^ 31) : inR (nI j) 0 (g k - 1) := by
  rw [hn]
  cases n with
  | zero => omega
  | succ n =>
    rw [show nI (n + 1) - 1 = nI n from by rw [show (1 : Int32) = nI 1 by decide, pk_sub (by omega)]; rfl]
    exact (inR_nI (a := 0) (b := n) (by decide) rfl (by omega) (by omega) (by omega)).mpr ⟨by omega, by omega⟩
def sDoor (g : Nat → Int32) (door isOpen : Int32) : zS := if inR door 0 6 ∧ inR isOpen 0 1 then (0, g (13 + tN door), upd g (13 + tN door) isOpen) else (1, 0, g)
def valveF (g : Nat → Int32) (v : Nat) (room w : Int32) : Nat → Int32 := upd (upd (upd (upd g (116 + 3 * v) room) (116 + 3 * v + 1) w) (116 + 3 * v + 2) 0) 2 (nI (v + 1))
def sValve (g : Nat → Int32) (room w : Int32) : zS := if inR room 0 7 ∧ inR w 1 20 then (if tN (g 2) = 12 then (4, 0, g) else (0, nI (tN (g 2)), valveF g (tN (g 2)) room w)) else (1, 0, g)
def sTurn (g : Nat → Int32) (v o : Int32) : zS := if inR v 0 (g 2 - 1) ∧ inR o 0 1 then (0, g (116 + 3 * tN v + 2), upd g (116 + 3 * tN v + 2) o) else (1, 0, g)
/-- the men in a room, of the first k -/
def menF (g : Nat → Int32) (room : Int32) : Nat → Int32
  | 0 => 0
  | k + 1 => menF g room k ||| (if g (36 + 5 * k) = room then (1 : Int32) <<< (nI k &&& 31) else 0)
def sRoom (g : Nat → Int32) (room what : Int32) : zS := if inR room 0 7 ∧ inR what 0 2 then (0, if what = 2 then menF g room (tN (g 1)) else if what = 0 then g (20 + tN room) else g (28 + tN room), g) else (1, 0, g)
def sPour (g : Nat → Int32) (room what v : Int32) : zS := if inR room 0 7 ∧ what = 0 ∧ inR v 0 1000 then (0, g (20 + tN room), upd g (20 + tN room) v) else if inR room 0 7 ∧ what = 1 ∧ inR v 0 99999 then (0, g (28 + tN room), upd g (28 + tN room) v) else (1, 0, g)
def tankF (g : Nat → Int32) (t : Nat) (place size : Int32) : Nat → Int32 := upd (upd (upd (upd g (200 + 3 * t) place) (200 + 3 * t + 1) size) (200 + 3 * t + 2) 0) 4 (nI (t + 1))
def sTank (g : Nat → Int32) (place size : Int32) : zS := if inR place (-50) 50 ∧ inR size 1 50 then (if tN (g 4) = 8 then (4, 0, g) else (0, nI (tN (g 4)), tankF g (tN (g 4)) place size)) else (1, 0, g)
def sBlow (g : Nat → Int32) (t o : Int32) : zS := if inR t 0 (g 4 - 1) ∧ inR o 0 1 then (0, g (200 + 3 * tN t + 2), upd g (200 + 3 * tN t + 2) o) else (1, 0, g)
abbrev isPartP (ab : Int32) : Prop := 0 ≤ ab ∧ inR (ab - ab / 10 * 10) 1 6 ∧ ab / 10 ≤ ab - ab / 10 * 10
def besideF (nn mm ab : Int32) : Int32 := if nn * (ab / 10) < mm * (ab - ab / 10 * 10) then 0 else if mm * (ab - ab / 10 * 10) < nn * (ab / 10) then 1 else 2
def sBeside (g : Nat → Int32) (nn mm ab : Int32) : zS := if inR nn 1 12 ∧ inR mm 0 nn ∧ isPartP ab then (0, besideF nn mm ab, g) else (1, 0, g)
def planF (g : Nat → Int32) (side k : Nat) (fr to place : Int32) : Nat → Int32 := upd (upd (upd (upd g (224 + 3 * (10 * side + k)) fr) (224 + 3 * (10 * side + k) + 1) to) (224 + 3 * (10 * side + k) + 2) place) (11 + side) (nI (k + 1))
def sPlan (g : Nat → Int32) (side fr to place : Int32) : zS := if inR side 0 1 ∧ inR fr 0 2399 ∧ inR to fr 2399 ∧ inR place 0 8 then (if tN (g (11 + tN side)) = 10 then (4, 0, g) else (0, nI (tN (g (11 + tN side)) + 1), planF g (tN side) (tN (g (11 + tN side))) fr to place)) else (1, 0, g)
def sHour (g : Nat → Int32) (hour v : Int32) : zS := if inR hour 0 7 ∧ inR v 0 24 then (0, g (284 + tN hour), upd g (284 + tN hour) v) else (1, 0, g)
def causeF (g : Nat → Int32) (k : Nat) (o s : Int32) : Nat → Int32 := upd (upd (upd g (292 + 2 * k) o) (292 + 2 * k + 1) s) 5 (nI (k + 1))
def sCause (g : Nat → Int32) (o s : Int32) : zS := if inR o 0 4095 ∧ inR s 0 4095 ∧ o &&& s = 0 then (if tN (g 5) = 10 then (4, 0, g) else (0, nI (tN (g 5)), causeF g (tN (g 5)) o s)) else (1, 0, g)
def sFound (g : Nat → Int32) (v o : Int32) : zS := if inR v 0 11 ∧ inR o (-1) 1 then (0, g (312 + tN v), upd g (312 + tN v) o) else (1, 0, g)
def sSeed (g : Nat → Int32) (v : Int32) : zS := (0, g 8, upd g 8 v)
def sTold (g er : Nat → Int32) (k : Int32) : zS := if inR k 1 5 then (0, er (tN k), g) else (1, 0, g)
def sCount (g : Nat → Int32) (traced what : Int32) : zS := if inR what 0 9 then (0, if what < 8 then g (tN what) else if what = 8 then traced else g 8, g) else (1, 0, g)
def sTell (g : Nat → Int32) (v : Int32) : zS := if tN (g 7) = 20 then (4, 0, g) else (0, nI (tN (g 7) + 1), upd (upd g (374 + tN (g 7)) v) 7 (nI (tN (g 7) + 1)))
def wayF (g : Nat → Int32) (w : Nat) (kind t k r : Int32) : Nat → Int32 := upd (upd (upd (upd (upd g (152 + 4 * w) kind) (152 + 4 * w + 1) t) (152 + 4 * w + 2) k) (152 + 4 * w + 3) r) 3 (nI (w + 1))
def sWay (g : Nat → Int32) (kind t k r : Int32) : zS := if inR kind 0 7 ∧ inR t 1 600 ∧ inR k 1 9 ∧ inR r 0 100 then (if tN (g 3) = 12 then (4, 0, g) else (0, nI (tN (g 3)), wayF g (tN (g 3)) kind t k r)) else (1, 0, g)
/-- the kinds that a kind is of -/
def chainN (k : Nat) : List Nat := if k = 0 then [0] else if k = 3 ∨ k = 6 then [k, 1, 0] else if k = 7 then [7, 5, 0] else [k, 0]
def sAs (g : Nat → Int32) (way kind : Int32) : zS := if inR way 0 (g 3 - 1) ∧ inR kind 0 7 then (if tN kind ∈ chainN (tN (g (152 + 4 * tN way))) then (0, g (152 + 4 * tN way + 1), g) else (5, 0, g)) else (1, 0, g)
def drawZ (z : Int32) : Int32 := z * 1103515245 + 12345
def drawV (z b : Int32) : Int32 := let y := (z.toUInt32 >>> ((8 : Int32).toUInt32 &&& Int32.toUInt32 31)).toInt32; y - y / b * b
/-- k more men are drawn, from the nm-th place on -/
def madeF (g : Nat → Int32) (nm : Nat) : Nat → (Nat → Int32)
  | 0 => g
  | k + 1 => let h := madeF g nm k; let z1 := drawZ (h 8); let z2 := drawZ z1; let z3 := drawZ z2; comesF (upd (upd (upd h 8 z1) 8 z2) 8 z3) (nm + k) (drawV z1 8) (drawV z2 10) (drawV z3 2)
def sMade (g : Nat → Int32) (k : Int32) : zS := if inR k 1 16 then (if 16 < tN (g 1) + tN k then (4, 0, g) else (0, nI (tN (g 1) + tN k), madeF g (tN (g 1)) (tN k))) else (1, 0, g)
/-- the kind above a kind (-1: none) -/
def aboveI (k : Nat) : Int32 := if k = 0 then -1 else if k = 3 ∨ k = 6 then 1 else if k = 7 then 5 else 0
