/-! PLAIN SIDE: the state in plain numbers; what the heap holds of it -/
set_option maxRecDepth 100000
def cHl : List Nat := [0, 1, 2, 3, 4, 5, 6, 7, 8, 9, 10, 11, 0, 0, 1, 1, 2, 2, 3, 3, 4, 4, 4, 5, 5, 5, 6, 6, 6, 7, 7, 7, 8, 8, 8, 9, 9, 9, 10, 10, 10, 11, 11, 11, 1, 2, 5, 5, 6, 6, 7, 7, 8, 8, 9, 9, 10, 10, 0, 1, 2, 3, 4, 5, 6, 7, 8, 9, 10, 11, 0, 0, 1, 1, 2, 2, 3, 3, 0, 1, 2, 3, 4, 5, 6, 7, 8, 9, 10, 11]
def cKl : List Nat := [99, 99, 99, 99, 99, 99, 99, 99, 99, 99, 99, 99, 1, 2, 0, 3, 3, 0, 2, 1, 5, 6, 8, 4, 7, 9, 7, 4, 10, 6, 5, 11, 9, 10, 4, 8, 11, 5, 11, 8, 6, 10, 9, 7, 2, 1, 6, 8, 5, 8, 10, 9, 5, 6, 10, 7, 9, 7, 3, 2, 1, 0, 11, 10, 9, 8, 7, 6, 5, 4, 4, 8, 5, 9, 6, 10, 7, 11, 99, 99, 99, 99, 99, 99, 99, 99, 99, 99, 99, 99]
def cWl : List Nat := [0, 0, 0, 0, 0, 0, 0, 0, 0, 0, 0, 0, 0, 1, 0, 1, 0, 1, 0, 1, 0, 1, 2, 0, 1, 2, 0, 1, 2, 0, 1, 2, 0, 1, 2, 0, 1, 2, 0, 1, 2, 0, 1, 2, 0, 0, 0, 0, 0, 1, 0, 1, 0, 1, 0, 1, 0, 0, 0, 0, 0, 0, 0, 0, 0, 0, 0, 0, 0, 0, 2, 2, 2, 2, 2, 2, 2, 2, 0, 0, 0, 0, 0, 0, 0, 0, 0, 0, 0, 0]
/-- cases: from which one on, how many, their halls -/
def cF (k : Nat) : Nat := [0, 12, 44, 58, 70, 78, 90].getD k 0
def cN (k : Nat) : Nat := [12, 32, 14, 12, 8, 12].getD k 0
def cH (q : Nat) : Nat := cHl.getD q 0
def cK (q : Nat) : Nat := cKl.getD q 99
def cW (q : Nat) : Nat := cWl.getD q 0
def cKi (q : Nat) : Int32 := if cK q = 99 then -1 else nI (cK q)
/-- kinds with another hall -/
def prd (k : Nat) : Bool := decide (1 ≤ k ∧ k ≤ 4)
def spr (x : Nat) : Nat := (if x.testBit 0 then 7 else 0) + (if x.testBit 1 then 56 else 0) + (if x.testBit 2 then 448 else 0)
/-- what the class keeps of a table -/
def gx (k x : Nat) : Nat := if prd k = true then x else spr x
def tmax (k : Nat) : Nat := if prd k = true then 512 else 8
/-- the state: laws, taped, waits; rule, kinds, prices, tape, tables; what waits -/
abbrev AS : Type := Nat × Nat × Nat × (Nat → Nat) × (Nat → Nat) × (Nat → Nat) × (Nat → Nat) × (Nat → Nat → Nat) × (Nat → Int32)
abbrev aN (a : AS) : Nat := a.1
abbrev aT (a : AS) : Nat := a.2.1
abbrev aW (a : AS) : Nat := a.2.2.1
abbrev aR (a : AS) : Nat → Nat := a.2.2.2.1
abbrev aK (a : AS) : Nat → Nat := a.2.2.2.2.1
abbrev aP (a : AS) : Nat → Nat := a.2.2.2.2.2.1
abbrev aB (a : AS) : Nat → Nat := a.2.2.2.2.2.2.1
abbrev aX (a : AS) : Nat → Nat → Nat := a.2.2.2.2.2.2.2.1
abbrev aV (a : AS) : Nat → Int32 := a.2.2.2.2.2.2.2.2
def AOK (a : AS) : Prop := aN a ≤ 8 ∧ aT a ≤ 50 ∧ aW a ≤ 20 ∧ (∀ h, h < 12 → 1 ≤ aR a h ∧ aR a h ≤ 3) ∧ (∀ l, l < aN a → aK a l < 6 ∧ aP a l ≤ 99 ∧ ∀ i, i < cN (aK a l) → aX a l i < tmax (aK a l)) ∧ ∀ k, k < 50 → aB a k < 256
/-- a row of the reference holds the state -/
def RowIs (A : Nat → Int32) (a : AS) : Prop := A 0 = nI (aN a) ∧ A 1 = nI (aT a) ∧ A 2 = nI (aW a) ∧ (∀ h, h < 12 → A (10 + h) = nI (aR a h)) ∧ (∀ l, l < aN a → A (22 + l) = nI (aK a l) ∧ A (30 + l) = nI (aP a l) ∧ ∀ i, i < cN (aK a l) → A (110 + 32 * l + i) = nI (aX a l i)) ∧ (∀ k, k < 50 → A (40 + k) = nI (aB a k)) ∧ ∀ k, k < 20 → A (90 + k) = aV a k
/-- a law's cases, never changed -/
def Cas (sh : SH) (I : II) (ow : Nat → Nat) (cl kd : Nat) (T : Nat → Nat) : Prop := obw sh cl 23 ∧ ow cl = 0 ∧ I cl 4 = nI (cN kd) ∧ ∃ f s g : Nat, sh.2.2 cl 0 = some f ∧ sh.2.2 cl 1 = some s ∧ sh.2.2 cl 3 = some g ∧ arw sh f 100 36 ∧ arw sh s 100 36 ∧ arw sh g 100 36 ∧ ow f = 0 ∧ ow s = 0 ∧ ow g = 0 ∧ ∀ i, i < cN kd → I f i = nI (cH (cF kd + i)) ∧ I s i = cKi (cF kd + i) ∧ I g i = nI (gx kd (T i))
def Dem (sh : SH) (I : II) (ow : Nat → Nat) (t : Nat) (a : AS) (l d : Nat) : Prop := obw sh d (11 + aK a l) ∧ ow d = t ∧ sh.2.2 d 0 = some 7 ∧ I d 1 = nI l ∧ I d 2 = nI (aP a l) ∧ ∃ cl : Nat, sh.2.2 d 4 = some cl ∧ Cas sh I ow cl (aK a l) (aX a l)
/-- the list of laws -/
def Lst (sh : SH) (I : II) (ow : Nat → Nat) (t : Nat) (a : AS) (al : Nat) : Prop := obw sh al 3 ∧ ow al = t ∧ I al 2 = nI (aN a) ∧ ∃ ea : Nat, sh.2.2 al 1 = some ea ∧ ((aN a = 0 ∧ ea = exA + 30) ∨ (arw sh ea 200 10 ∧ ow ea = t)) ∧ ∀ l, l < aN a → ∃ d : Nat, sh.2.2 ea l = some d ∧ Dem sh I ow t a l d
/-- a village holds the state; its own cells have the mark t -/
def Vil (sh : SH) (I : II) (ow : Nat → Nat) (t : Nat) (a : AS) (v : Nat) : Prop := obw sh v 2 ∧ ow v = t ∧ I v 3 = nI (aT a) ∧ I v 5 = nI (aW a) ∧
  (∃ tl : Nat, sh.2.2 v 0 = some tl ∧ arw sh tl 100 12 ∧ ow tl = t ∧ ∀ h, h < 12 → I tl h = nI (aR a h)) ∧
  (∃ al : Nat, sh.2.2 v 1 = some al ∧ Lst sh I ow t a al) ∧
  (∃ tp : Nat, sh.2.2 v 2 = some tp ∧ arw sh tp 101 50 ∧ ow tp = t ∧ ∀ k, k < 50 → I tp k = Int8.toInt32 (Int32.toInt8 (nI (aB a k)))) ∧
  ∃ wl : Nat, sh.2.2 v 4 = some wl ∧ arw sh wl 100 20 ∧ ow wl = t ∧ ∀ k, k < 20 → I wl k = aV a k
/-- what a row of width w keeps of a number -/
abbrev cut (w : Nat) (x : Int32) : Int32 := if w = 0 then Int8.toInt32 (Int32.toInt8 x) else if w = 1 then Int16.toInt32 (Int32.toInt16 x) else x
/-- one sheet -/
def Sht (sh : SH) (I : II) (ow : Nat → Nat) (s : Nat) : Prop := (sh.2.2 (23 + s) 0 = none ∧ I 44 s = 0 ∧ I 45 s = 0) ∨ ∃ q w r n : Nat, sh.2.2 (23 + s) 0 = some q ∧ w < 3 ∧ obw sh q (24 + w) ∧ sh.2.2 q 0 = some r ∧ arw sh r (if w = 0 then 101 else if w = 1 then 102 else 100) n ∧ ow r = 10 + s ∧ n ≤ 40 ∧ I 44 s = nI (if w = 0 then 8 else if w = 1 then 16 else 32) ∧ I 45 s = nI n ∧ ∀ k, k < n → I r k = I 46 (40 * s + k) ∧ cut w (I r k) = I r k
/-- the reference's tables of cases -/
def Tab (I : II) : Prop := (∀ k, k < 7 → I 31 k = nI (cF k)) ∧ ∀ q, q < 90 → I 32 q = nI (cH q) ∧ I 33 q = cKi q ∧ I 34 q = nI (cW q)
/-- what stood before the start -/
def Out (sh : SH) (I : II) : Prop := sh.2.2 exS 0 = some (exA + 30) ∧ (∀ a, exA ≤ a → sh.2.1 a = kd0 a ∧ (a < exA + 20 → I a = I0 a)) ∧ ∀ j, j < 10 → sh.2.2 (exA + j) 0 = some (exA + j + 10)
/-- marks: 9 scratch and lasting cells, 0 never changed, 1 the village's, 2 the image's, 10 and on rows of sheets -/
def Mrk (ow : Nat → Nat) : Prop := (∀ a, a < 48 → ¬ (2 ≤ a ∧ a ≤ 6) → ow a = 9) ∧ ∀ a, exA ≤ a → ow a = 9
/-- all: n acts are done -/
def Inv (n : Nat) (sh : SH) (I : II) : Prop := stN sh ∧ StM sh ∧ sh.1 ≤ 48 + 300 * n ∧ Out sh I ∧ Tab I ∧ (∀ k, k < 6 → I 21 k = I 30 k) ∧ (I 7 1 = I 27 27 ∧ ∃ m, m ≤ 40 ∧ I 27 27 = nI m ∧ ∀ k, k < m → I 8 k = I 43 k) ∧ ∃ (ow : Nat → Nat) (a : AS) (v : Nat), Mrk ow ∧ AOK a ∧ RowIs (I 28) a ∧ sh.2.2 0 1 = some v ∧ Vil sh I ow 1 a v ∧ (∀ s, s < 4 → Sht sh I ow s) ∧
  ∃ im : Nat, im ≤ n ∧ I 0 3 = nI im ∧ I 27 2 = nI im ∧ ((im = 0 ∧ sh.2.2 0 2 = none) ∨ (0 < im ∧ ∃ (b : AS) (w : Nat), AOK b ∧ RowIs (I 29) b ∧ sh.2.2 0 2 = some w ∧ Vil sh I ow 2 b w))

