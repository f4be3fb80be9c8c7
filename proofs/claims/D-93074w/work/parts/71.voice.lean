/-! PLAIN SIDE: voices -/
set_option maxRecDepth 100000
def vBids (k l : Nat) (x : Int32) : Int32 × List Nat := if k = 2 then (x + nI l - nI 1, [30, 10]) else if k = 5 then ((x + nI l) ^^^ nI 5, [60, 10]) else (x + nI l, [10])
def vYl (k l p : Nat) (x : Int32) : Int32 × List Nat := if k = 3 then (-(x - nI p), [40, 12]) else if k = 5 then ((x - nI p) * ((nI 1 + nI l) ^^^ nI 5), [61, 12, 60, 10]) else (x - nI p, [12])
def vBar0 (k l : Nat) (x : Int32) : Int32 × List Nat := ((vBids k l x).1 * nI 2, 11 :: (vBids k l x).2)
def vBar1 (k l p : Nat) (x : Int32) : Int32 × List Nat := ((vBar0 k l x).1 + (vYl k l p x).1, 20 :: ((vBar0 k l x).2 ++ (vYl k l p x).2))
def vBars (k l p : Nat) (x : Int32) : Int32 × List Nat := if k = 0 then vBar0 k l x else if k = 5 then vBar0 k l x else if k = 4 then ((vBar1 k l p (x - nI p)).1, 51 :: (vBar1 k l p (x - nI p)).2) else vBar1 k l p x
def vStd0 (k l p : Nat) (x : Int32) : Int32 × List Nat := ((vBars k l p x).1 ^^^ (vYl k l p x).1, 13 :: ((vBars k l p x).2 ++ (vYl k l p x).2))
def vStd (k l p : Nat) (x : Int32) : Int32 × List Nat := if k = 2 then ((vStd0 k l p (x + nI 1)).1, 31 :: (vStd0 k l p (x + nI 1)).2) else if k = 4 then ((vYl k l p x).1 - (vStd0 k l p x).1, 50 :: ((vYl k l p x).2 ++ (vStd0 k l p x).2)) else vStd0 k l p x
def vAct (k l p a : Nat) (x : Int32) : Int32 × List Nat := if a = 0 then vBids k l x else if a = 1 then vBars k l p x else if a = 2 then vYl k l p x else vStd k l p x
theorem k6 {k : Nat} (h : k < 6) : k = 0 ∨ k = 1 ∨ k = 2 ∨ k = 3 ∨ k = 4 ∨ k = 5 := by omega
theorem len_b {k l : Nat} {x : Int32} (_h : k < 6) : (vBids k l x).2.length ≤ 2 := by
  unfold vBids
  split
  · exact Nat.le_refl 2
  · split
    · exact Nat.le_refl 2
    · exact Nat.le_succ 1
theorem len_y {k l p : Nat} {x : Int32} (_h : k < 6) : (vYl k l p x).2.length ≤ 4 := by
  unfold vYl
  split
  · show 2 ≤ 4; omega
  · split
    · show 4 ≤ 4; omega
    · show 1 ≤ 4; omega
theorem len_0 {k l : Nat} {x : Int32} (h : k < 6) : (vBar0 k l x).2.length ≤ 3 := by
  have := len_b (l := l) (x := x) h
  unfold vBar0
  rw [List.length_cons]
  omega
theorem len_1 {k l p : Nat} {x : Int32} (h : k < 6) : (vBar1 k l p x).2.length ≤ 8 := by
  have h1 := len_0 (l := l) (x := x) h
  have h2 := len_y (l := l) (p := p) (x := x) h
  unfold vBar1
  rw [List.length_cons, List.length_append]
  omega
theorem len_r {k l p : Nat} {x : Int32} (h : k < 6) : (vBars k l p x).2.length ≤ 9 := by
  have h1 := len_0 (l := l) (x := x) h
  have h2 := len_1 (l := l) (p := p) (x := x) h
  have h3 := len_1 (l := l) (p := p) (x := x - nI p) h
  unfold vBars
  split
  · omega
  · split
    · omega
    · split
      · rw [List.length_cons]; omega
      · omega
theorem len_s0 {k l p : Nat} {x : Int32} (h : k < 6) : (vStd0 k l p x).2.length ≤ 14 := by
  have h1 := len_r (l := l) (p := p) (x := x) h
  have h2 := len_y (l := l) (p := p) (x := x) h
  unfold vStd0
  rw [List.length_cons, List.length_append]
  omega
theorem len_s {k l p : Nat} {x : Int32} (h : k < 6) : (vStd k l p x).2.length ≤ 19 := by
  have h1 := len_s0 (l := l) (p := p) (x := x) h
  have h2 := len_s0 (l := l) (p := p) (x := x + nI 1) h
  have h3 := len_y (l := l) (p := p) (x := x) h
  unfold vStd
  split
  · rw [List.length_cons]; omega
  · split
    · rw [List.length_cons, List.length_append]; omega
    · omega
theorem len_a {k l p a : Nat} {x : Int32} (h : k < 6) : (vAct k l p a x).2.length ≤ 19 := by
  have h1 := len_b (l := l) (x := x) h
  have h2 := len_r (l := l) (p := p) (x := x) h
  have h3 := len_y (l := l) (p := p) (x := x) h
  have h4 := len_s (l := l) (p := p) (x := x) h
  unfold vAct
  split
  · omega
  · split
    · omega
    · split <;> omega
/-! the class -/
def bgN : II → Nat → List Nat → II
  | I, _, [] => I
  | I, m, b :: t => bgN (up2 (up2 I 8 m (nI b)) 7 1 (nI (m + 1))) (m + 1) t
theorem bgN_app : ∀ (b c : List Nat) (I : II) (m : Nat), bgN (bgN I m b) (m + b.length) c = bgN I m (b ++ c) := by
  intro b
  induction b with
  | nil => intro c I m; rfl
  | cons x b ih =>
    intro c I m
    rw [List.cons_append, bgN, bgN, ← ih, List.length_cons, Nat.add_assoc, Nat.add_comm 1 b.length]
theorem bgN_x {x : Nat} (h7 : x ≠ 7) (h8 : x ≠ 8) : ∀ (b : List Nat) (I : II) (m : Nat), bgN I m b x = I x := by
  intro b
  induction b with
  | nil => intro I m; rfl
  | cons y b ih => intro I m; rw [bgN, ih, up2_n h7, up2_n h8]
theorem bgN_m : ∀ (b : List Nat) (I : II) (m : Nat), I 7 1 = nI m → bgN I m b 7 1 = nI (m + b.length) := by
  intro b
  induction b with
  | nil => intro I m h; exact h
  | cons y b ih => intro I m h; rw [bgN, ih _ (m + 1) up2_eq, List.length_cons, Nat.add_assoc, Nat.add_comm 1 b.length]
theorem bgN_low : ∀ (b : List Nat) (I : II) (m k : Nat), k < m → bgN I m b 8 k = I 8 k := by
  intro b
  induction b with
  | nil => intro I m k _; rfl
  | cons y b ih => intro I m k hk; rw [bgN, ih _ (m + 1) k (by omega), up2_n (by decide), up2_ne (by omega)]
theorem bgN_at : ∀ (b : List Nat) (I : II) (m k : Nat), k < b.length → bgN I m b 8 (m + k) = nI (b.getD k 0) := by
  intro b
  induction b with
  | nil => intro I m k hk; exact absurd hk (by show ¬ k < 0; omega)
  | cons y b ih =>
    intro I m k hk
    rw [List.length_cons] at hk
    cases k with
    | zero => rw [Nat.add_zero, bgN, bgN_low _ _ _ _ (by omega), up2_n (by decide), up2_eq]; rfl
    | succ k =>
      have := ih (up2 (up2 I 8 m (nI y)) 7 1 (nI (m + 1))) (m + 1) k (by omega)
      rw [Nat.add_assoc, Nat.add_comm 1 k] at this
      rw [bgN, this]
      rfl
def VB (dm l p : Nat) (I : II) (m : Nat) : Prop := I dm 1 = nI l ∧ I dm 2 = nI p ∧ I 7 1 = nI m
theorem VB.bg {dm l p : Nat} {I : II} {m : Nat} (h : VB dm l p I m) (h7 : dm ≠ 7) (h8 : dm ≠ 8) (b : List Nat) : VB dm l p (bgN I m b) (m + b.length) := ⟨by rw [bgN_x h7 h8]; exact h.1, by rw [bgN_x h7 h8]; exact h.2.1, bgN_m b I m h.2.2⟩
/-- an object that has voices -/
def VO (sh : SH) (dm k : Nat) : Prop := obw sh dm (11 + k) ∧ k < 6 ∧ sh.2.2 dm 0 = some 7 ∧ dm ≠ 7 ∧ dm ≠ 8
def RN (sh : SH) (dm l p : Nat) (f : SH → Nat → Int32 → II → Option (Int32 × II)) (x : Int32) (o : Int32 × List Nat) : Prop := ∀ I m, VB dm l p I m → m + o.2.length ≤ 40 → f sh dm x I = some (o.1, bgN I m o.2)
theorem begins_ok {sh : SH} {I : II} {m b : Nat} (h : I 7 1 = nI m) (hm : m < 40) : f_X3_begins sh (nI b) I = some (bgN I m [b]) := by
  unfold f_X3_begins
  rw [h, if_neg (nI_ge hm (by omega)), oix_ok (j := m) rfl hm (by decide), up2_n (by decide), h, nI_add]
  rfl
/-- a body that begins and then goes on -/
theorem vo_head {sh : SH} {dm k l p b m : Nat} {I : II} {f : II → Option (Int32 × II)} (hO : VO sh dm k) (hV : VB dm l p I m) (hm : m < 40) : (ockD sh dm <| orf (sh.2.2 dm 0) fun t1 => og (t1 = 7) <| (f_X3_begins sh (nI b) I).bind fun I6 => f I6) = f (bgN I m [b]) := by
  rw [ockD_ok hO.1.r hO.2.1, orf_ok hO.2.2.1, og_ok rfl, begins_ok hV.2.2 hm, Option.bind_some]
theorem nBids0 {sh : SH} {dm k l p : Nat} {x : Int32} (hO : VO sh dm k) : RN sh dm l p f_X10_bids x (x + nI l, [10]) := by
  intro I m hV hm
  have hm' : m + 1 ≤ 40 := hm
  unfold f_X10_bids
  rw [vo_head hO hV (by omega), (hV.bg hO.2.2.2.1 hO.2.2.2.2 [10]).1]
theorem nYl0 {sh : SH} {dm k l p : Nat} {x : Int32} (hO : VO sh dm k) : RN sh dm l p f_X10_yields x (x - nI p, [12]) := by
  intro I m hV hm
  have hm' : m + 1 ≤ 40 := hm
  unfold f_X10_yields
  rw [vo_head hO hV (by omega), (hV.bg hO.2.2.2.1 hO.2.2.2.2 [12]).2.1]
/-- a body that begins and then has one call -/
theorem vo_one {sh : SH} {dm k l p b m : Nat} {I : II} {g : SH → Nat → Int32 → II → Option (Int32 × II)} {y : Int32} {o : Int32 × List Nat} (hO : VO sh dm k) (hV : VB dm l p I m) (hg : RN sh dm l p g y o) (hm : m + (o.2.length + 1) ≤ 40) : g sh dm y (bgN I m [b]) = some (o.1, bgN I m (b :: o.2)) := by
  have h1 := hV.bg hO.2.2.2.1 hO.2.2.2.2 [b]
  have h2 := hg _ _ h1 (by rw [List.length_singleton]; omega)
  rw [h2, bgN_app]
  rfl
theorem nBids2 {sh : SH} {dm k l p : Nat} {x : Int32} (hO : VO sh dm k) : RN sh dm l p f_X12_bids x (x + nI l - nI 1, [30, 10]) := by
  intro I m hV hm
  have hm' : m + 2 ≤ 40 := hm
  unfold f_X12_bids
  rw [vo_head hO hV (by omega), bd2_ok (vo_one hO hV (nBids0 hO) hm)]
theorem nBids5 {sh : SH} {dm k l p : Nat} {x : Int32} (hO : VO sh dm k) : RN sh dm l p f_X15_bids x ((x + nI l) ^^^ nI 5, [60, 10]) := by
  intro I m hV hm
  have hm' : m + 2 ≤ 40 := hm
  unfold f_X15_bids
  rw [vo_head hO hV (by omega), bd2_ok (vo_one hO hV (nBids0 hO) hm)]
theorem nBids {sh : SH} {dm k l p : Nat} {x : Int32} (hO : VO sh dm k) : RN sh dm l p v_X10_bids x (vBids k l x) := by
  intro I m hV hm
  unfold v_X10_bids
  rw [og_ok (Or.inl hO.1.1), hO.1.2]
  rcases k6 hO.2.1 with rfl | rfl | rfl | rfl | rfl | rfl
  · rw [if_pos rfl]; exact nBids0 hO I m hV hm
  · rw [if_neg (by decide), if_pos rfl]; exact nBids0 hO I m hV hm
  · rw [if_neg (by decide), if_neg (by decide), if_pos rfl]; exact nBids2 hO I m hV hm
  · rw [if_neg (by decide), if_neg (by decide), if_neg (by decide), if_pos rfl]; exact nBids0 hO I m hV hm
  · rw [if_neg (by decide), if_neg (by decide), if_neg (by decide), if_neg (by decide), if_pos rfl]; exact nBids0 hO I m hV hm
  · rw [if_neg (by decide), if_neg (by decide), if_neg (by decide), if_neg (by decide), if_neg (by decide), if_pos rfl]; exact nBids5 hO I m hV hm
theorem nYl3 {sh : SH} {dm k l p : Nat} {x : Int32} (hO : VO sh dm k) : RN sh dm l p f_X13_yields x (-(x - nI p), [40, 12]) := by
  intro I m hV hm
  have hm' : m + 2 ≤ 40 := hm
  unfold f_X13_yields
  rw [vo_head hO hV (by omega), bd2_ok (vo_one hO hV (nYl0 hO) hm)]
theorem nYl5 {sh : SH} {dm l p : Nat} {x : Int32} (hO : VO sh dm 5) : RN sh dm l p f_X15_yields x ((x - nI p) * ((nI 1 + nI l) ^^^ nI 5), [61, 12, 60, 10]) := by
  intro I m hV hm
  have hm' : m + 4 ≤ 40 := hm
  unfold f_X15_yields
  rw [vo_head hO hV (by omega), bd2_ok (vo_one hO hV (nYl0 hO) (show m + 2 ≤ 40 by omega)), ock_ok hO.1.r]
  have h1 := hV.bg hO.2.2.2.1 hO.2.2.2.2 [61, 12]
  rw [bd2_ok (nBids5 hO _ _ h1 (show m + 2 + 2 ≤ 40 by omega))]
  rfl
theorem nYl {sh : SH} {dm k l p : Nat} {x : Int32} (hO : VO sh dm k) : RN sh dm l p v_X10_yields x (vYl k l p x) := by
  intro I m hV hm
  unfold v_X10_yields
  rw [og_ok (Or.inl hO.1.1), hO.1.2]
  rcases k6 hO.2.1 with rfl | rfl | rfl | rfl | rfl | rfl
  · rw [if_pos rfl]; exact nYl0 hO I m hV hm
  · rw [if_neg (by decide), if_pos rfl]; exact nYl0 hO I m hV hm
  · rw [if_neg (by decide), if_neg (by decide), if_pos rfl]; exact nYl0 hO I m hV hm
  · rw [if_neg (by decide), if_neg (by decide), if_neg (by decide), if_pos rfl]; exact nYl3 hO I m hV hm
  · rw [if_neg (by decide), if_neg (by decide), if_neg (by decide), if_neg (by decide), if_pos rfl]; exact nYl0 hO I m hV hm
  · rw [if_neg (by decide), if_neg (by decide), if_neg (by decide), if_neg (by decide), if_neg (by decide), if_pos rfl]; exact nYl5 hO I m hV hm
theorem nBar0 {sh : SH} {dm k l p : Nat} {x : Int32} (hO : VO sh dm k) : RN sh dm l p f_X10_bars x (vBar0 k l x) := by
  intro I m hV hm
  have hm' : m + ((vBids k l x).2.length + 1) ≤ 40 := hm
  unfold f_X10_bars
  rw [vo_head hO hV (by omega), bd2_ok (vo_one hO hV (nBids hO) hm)]
  rfl
/-- two calls -/
theorem vo_two {sh : SH} {dm k l p b m : Nat} {I : II} {g : SH → Nat → Int32 → II → Option (Int32 × II)} {y : Int32} {o1 o : Int32 × List Nat} (hO : VO sh dm k) (hV : VB dm l p I m) (hg : RN sh dm l p g y o) (hm : m + ((o1.2 ++ o.2).length + 1) ≤ 40) : g sh dm y (bgN I m (b :: o1.2)) = some (o.1, bgN I m (b :: (o1.2 ++ o.2))) := by
  have h1 := hV.bg hO.2.2.2.1 hO.2.2.2.2 (b :: o1.2)
  rw [List.length_append] at hm
  have h2 := hg _ _ h1 (by rw [List.length_cons]; omega)
  rw [h2, bgN_app]
  rfl
theorem vY11 {sh : SH} {dm k l p : Nat} {x : Int32} (hO : VO sh dm k) (h1 : 1 ≤ k) (h4 : k ≤ 4) : RN sh dm l p v_X11_yields x (vYl k l p x) := by
  intro I m hV hm
  have h := nYl hO I m hV hm
  rw [← h]
  unfold v_X11_yields v_X10_yields
  rw [hO.1.2]
  have hc : k = 1 ∨ k = 2 ∨ k = 3 ∨ k = 4 := by omega
  rcases hc with rfl | rfl | rfl | rfl <;> rfl
theorem nBar1 {sh : SH} {dm k l p : Nat} {x : Int32} (hO : VO sh dm k) (h1 : 1 ≤ k) (h4 : k ≤ 4) : RN sh dm l p f_X11_bars x (vBar1 k l p x) := by
  intro I m hV hm
  have hm' : m + (((vBar0 k l x).2 ++ (vYl k l p x).2).length + 1) ≤ 40 := hm
  have hm2 := hm'
  rw [List.length_append] at hm2
  unfold f_X11_bars
  rw [vo_head hO hV (by omega), bd2_ok (vo_one hO hV (nBar0 hO) (by omega)), bd2_ok (vo_two hO hV (vY11 hO h1 h4) hm')]
  rfl
theorem nBar4 {sh : SH} {dm l p : Nat} {x : Int32} (hO : VO sh dm 4) : RN sh dm l p f_X14_bars x ((vBar1 4 l p (x - nI p)).1, 51 :: (vBar1 4 l p (x - nI p)).2) := by
  intro I m hV hm
  have hm' : m + ((vBar1 4 l p (x - nI p)).2.length + 1) ≤ 40 := hm
  unfold f_X14_bars
  rw [vo_head hO hV (by omega), (hV.bg hO.2.2.2.1 hO.2.2.2.2 [51]).2.1, bd2_ok (vo_one hO hV (nBar1 hO (by omega) (by omega)) hm')]
theorem nBars {sh : SH} {dm k l p : Nat} {x : Int32} (hO : VO sh dm k) : RN sh dm l p v_X10_bars x (vBars k l p x) := by
  intro I m hV hm
  unfold v_X10_bars
  rw [og_ok (Or.inl hO.1.1), hO.1.2]
  rcases k6 hO.2.1 with rfl | rfl | rfl | rfl | rfl | rfl
  · rw [if_pos rfl]; exact nBar0 hO I m hV hm
  · rw [if_neg (by decide), if_pos rfl]; exact nBar1 hO (by omega) (by omega) I m hV hm
  · rw [if_neg (by decide), if_neg (by decide), if_pos rfl]; exact nBar1 hO (by omega) (by omega) I m hV hm
  · rw [if_neg (by decide), if_neg (by decide), if_neg (by decide), if_pos rfl]; exact nBar1 hO (by omega) (by omega) I m hV hm
  · rw [if_neg (by decide), if_neg (by decide), if_neg (by decide), if_neg (by decide), if_pos rfl]; exact nBar4 hO I m hV hm
  · rw [if_neg (by decide), if_neg (by decide), if_neg (by decide), if_neg (by decide), if_neg (by decide), if_pos rfl]; exact nBar0 hO I m hV hm
theorem nStd0 {sh : SH} {dm k l p : Nat} {x : Int32} (hO : VO sh dm k) : RN sh dm l p f_X10_stands x (vStd0 k l p x) := by
  intro I m hV hm
  have hm' : m + (((vBars k l p x).2 ++ (vYl k l p x).2).length + 1) ≤ 40 := hm
  have hm2 := hm'
  rw [List.length_append] at hm2
  unfold f_X10_stands
  rw [vo_head hO hV (by omega), bd2_ok (vo_one hO hV (nBars hO) (by omega)), bd2_ok (vo_two hO hV (nYl hO) hm')]
  rfl
theorem nStd2 {sh : SH} {dm k l p : Nat} {x : Int32} (hO : VO sh dm k) : RN sh dm l p f_X12_stands x ((vStd0 k l p (x + nI 1)).1, 31 :: (vStd0 k l p (x + nI 1)).2) := by
  intro I m hV hm
  have hm' : m + ((vStd0 k l p (x + nI 1)).2.length + 1) ≤ 40 := hm
  unfold f_X12_stands
  rw [vo_head hO hV (by omega), bd2_ok (vo_one hO hV (nStd0 hO) hm')]
theorem vY14 {sh : SH} {dm l p : Nat} {x : Int32} (hO : VO sh dm 4) : RN sh dm l p v_X14_yields x (vYl 4 l p x) := by
  intro I m hV hm
  have h := nYl hO I m hV hm
  rw [← h]
  unfold v_X14_yields v_X10_yields
  rw [hO.1.2]
  rfl
theorem nStd4 {sh : SH} {dm l p : Nat} {x : Int32} (hO : VO sh dm 4) : RN sh dm l p f_X14_stands x ((vYl 4 l p x).1 - (vStd0 4 l p x).1, 50 :: ((vYl 4 l p x).2 ++ (vStd0 4 l p x).2)) := by
  intro I m hV hm
  have hm' : m + (((vYl 4 l p x).2 ++ (vStd0 4 l p x).2).length + 1) ≤ 40 := hm
  have hm2 := hm'
  rw [List.length_append] at hm2
  unfold f_X14_stands
  rw [vo_head hO hV (by omega), bd2_ok (vo_one hO hV (vY14 hO) (by omega)), bd2_ok (vo_two hO hV (nStd0 hO) hm')]
theorem nStd {sh : SH} {dm k l p : Nat} {x : Int32} (hO : VO sh dm k) : RN sh dm l p v_KStands_stands x (vStd k l p x) := by
  intro I m hV hm
  unfold v_KStands_stands
  rw [og_ok (Or.inl hO.1.1), hO.1.2]
  rcases k6 hO.2.1 with rfl | rfl | rfl | rfl | rfl | rfl
  · rw [if_pos rfl]; exact nStd0 hO I m hV hm
  · rw [if_neg (by decide), if_pos rfl]; exact nStd0 hO I m hV hm
  · rw [if_neg (by decide), if_neg (by decide), if_pos rfl]; exact nStd2 hO I m hV hm
  · rw [if_neg (by decide), if_neg (by decide), if_neg (by decide), if_pos rfl]; exact nStd0 hO I m hV hm
  · rw [if_neg (by decide), if_neg (by decide), if_neg (by decide), if_neg (by decide), if_pos rfl]; exact nStd4 hO I m hV hm
  · rw [if_neg (by decide), if_neg (by decide), if_neg (by decide), if_neg (by decide), if_neg (by decide), if_pos rfl]; exact nStd0 hO I m hV hm
