/-! the start -/
set_option maxRecDepth 100000
theorem cl_inst : ∀ (k : Nat) (r : vw_C), vwCl[k]? = some r → ∃ n, Cond.instantiable r.1 n ∈ lw_tbl := by
  intro k r h
  match k, h with
  | 0, h => cases h; exact ⟨_, (lw_all_tbl q139)⟩
  | 1, h => cases h; exact ⟨_, (lw_all_tbl q147)⟩
  | 2, h => cases h; exact ⟨_, (lw_all_tbl q216)⟩
  | 3, h => cases h; exact ⟨_, (lw_all_tbl q222)⟩
  | 4, h => cases h; exact ⟨_, (lw_all_tbl q275)⟩
  | 5, h => cases h; exact ⟨_, (lw_all_tbl q290)⟩
  | 6, h => cases h; exact ⟨_, (lw_all_tbl q301)⟩
  | 7, h => cases h; exact ⟨_, (lw_all_tbl q307)⟩
  | 8, h => cases h; exact ⟨_, (lw_all_tbl q340)⟩
  | 9, h => cases h; exact ⟨_, (lw_all_tbl q363)⟩
  | 10, h => cases h; exact ⟨_, (lw_all_tbl q1978)⟩
  | 11, h => cases h; exact ⟨_, (lw_all_tbl q641)⟩
  | 12, h => cases h; exact ⟨_, (lw_all_tbl q522)⟩
  | 13, h => cases h; exact ⟨_, (lw_all_tbl q593)⟩
  | 14, h => cases h; exact ⟨_, (lw_all_tbl q605)⟩
  | 15, h => cases h; exact ⟨_, (lw_all_tbl q617)⟩
  | 16, h => cases h; exact ⟨_, (lw_all_tbl q629)⟩
  | 17, h => cases h; exact ⟨_, (lw_all_tbl q673)⟩
  | 18, h => cases h; exact ⟨_, (lw_all_tbl q1020)⟩
  | 19, h => cases h; exact ⟨_, (lw_all_tbl q1042)⟩
  | 20, h => cases h; exact ⟨_, (lw_all_tbl q1061)⟩
  | 21, h => cases h; exact ⟨_, (lw_all_tbl q1073)⟩
  | 22, h => cases h; exact ⟨_, (lw_all_tbl q1084)⟩
  | 23, h => cases h; exact ⟨_, (lw_all_tbl q1114)⟩
  | 24, h => cases h; exact ⟨_, (lw_all_tbl q1829)⟩
  | 25, h => cases h; exact ⟨_, (lw_all_tbl q1842)⟩
  | 26, h => cases h; exact ⟨_, (lw_all_tbl q1853)⟩
  | 27, h => cases h; exact ⟨_, (lw_all_tbl q682)⟩
  | 28, h => cases h; exact ⟨_, (lw_all_tbl q845)⟩
  | 29, h => cases h; exact ⟨_, (lw_all_tbl q845)⟩
  | k + 30, h => simp [vwCl] at h
/-! THE START: what the Statement gives of it -/
theorem start_K {args : Array Value} {s : State} (hts0 : ∀ w ∈ lw_tbl, w.before args s = true) : ∃ D : va_G, ∀ (k : Nat) (r : vw_C), vwCl[k]? = some r → u_Kn s r.1 r.2.1 r.2.2 (D.1 k) (D.2 k) := by
  have h0 : ∀ k : Nat, ∃ q : ClassId × (Nat → Nat), ∀ r, vwCl[k]? = some r → u_Kn s r.1 r.2.1 r.2.2 q.1 q.2 := by
    intro k
    cases hr : vwCl[k]? with
    | none => exact ⟨(0, fun _ => 0), fun r h => by cases h⟩
    | some r =>
      obtain ⟨n, hn⟩ := cl_inst k r hr
      obtain ⟨c, i, hK⟩ := u_known (ws := lw_all) (fun w h => hts0 w (lw_all_tbl h)) (cl_ok k r hr).1 (hts0 _ hn)
      exact ⟨(c, i), fun r' h => by cases h; exact hK⟩
  obtain ⟨f, hf⟩ := Classical.axiomOfChoice h0
  exact ⟨(fun k => (f k).1, fun k => (f k).2), fun k r h => hf k r h⟩
theorem start_A1 {args : Array Value} {s : State} {ty : FieldType} (hp : va_RA s = fun c t => va_RA s c t) (h : (Cond.arrayClass ty).before args s = true) (hr : ∀ c, s.vm.findClass ("[" ++ ty.toString) = some c → va_RA s c ty) : ∃ c : ClassId, ArrOfT s c ty ∧ va_RA s c ty := by
  obtain ⟨c, k, comp, h1, h2, h3⟩ := Cond.arrayClass_spec h
  exact ⟨c, fun n z => ⟨(fun k h => by cases h), k, h2, comp, h3⟩, hr c h1⟩
theorem start_A2 {args : Array Value} {s : State} {C : String} (h : (Cond.arrayOver (.object C)).before args s = true) : ∃ c : ClassId, ArrOfT s c (.object C) ∧ va_RA s c (.object C) := by
  obtain ⟨comp, c, k, h1, -, h2, h3, h4⟩ := Cond.arrayOver_spec h
  exact ⟨c, fun n z => ⟨(fun k h => by cases h), k, h2, comp, h3⟩, k, comp, h2, h3, h1, h4⟩
def strLen : List Nat := [7, 2, 1, 1, 1, 3, 2, 3, 1, 1]
def strByt : List (List Int32) := [[97, 98, 99, 115, 112, 113, 114], [100, 119], [105], [124], [38], [60, 61, 62], [43, 45], [42, 47, 37], [33], [40]]
def tmS (i : Nat) : Term := .string (strT.getD i ("", 0, "")).1 (strT.getD i ("", 0, "")).2.1
/-- the start's shape: nothing made; strings, their bytes, the empty array -/
def kd0 (a : Nat) : Nat × Nat := if a < exA then (0, 0) else if a < exA + 10 then (29, 0) else if a < exA + 20 then (101, strLen.getD (a - exA - 10) 0) else if a = exA + 30 then (200, 0) else (101, 7)
def R0 (st : Nat → Option Nat) (a k : Nat) : Option Nat := if a = exS then st k else if exA ≤ a ∧ a < exA + 10 ∧ k = 0 then some (a + 10) else none
def I0 (a k : Nat) : Int32 := if a < exA + 10 then 0 else if a < exA + 20 then (strByt.getD (a - exA - 10) []).getD k 0 else (strByt.getD 0 []).getD k 0
def oa0 (adK adV : Nat → Nat) (em t1 t2 : Nat) (j : Nat) : Nat := if j < 10 then adK j else if j < 20 then adV (j - 10) else if j = 30 then em else if j = 64 then t1 else if j = 65 then t2 else adV 0
theorem va_T.arrW {ty : FieldType} {t N : Nat} {f : Nat → Value} {A : Nat → Prop} {s : State} {H : Heap} {cA : ClassId} {C : String} {tm : Term} {args : Array Value} (h : va_T ty t N f A s s.heap) (hex : (Cond.exactly tm C).before args s = true) (ht : tm.eval args s none [] s = some (.ref t)) (hcA : s.vm.findClass C = some cA) : arrW t cA N f s.heap := by
  obtain ⟨cell, h1, h2, h3, h4, h5, h6, h7⟩ := h
  obtain ⟨a, c, cA', kA, q1, q2, q3, q4, q5, q6, -⟩ := Cond.exactly_spec (args := args) (first := s) (o := none) (s := s) (idx := []) (t := tm) (cls := C) hex
  cases q1.symm.trans ht
  cases q3.symm.trans h1
  cases q2.symm.trans hcA
  exact ⟨cell, h1, q6, ⟨h3, h2.1⟩, ⟨h4, h5⟩, h6⟩
theorem str_eval {args : Array Value} {s : State} {C : String} {tm : Term} {N : Nat} {adV : Nat} {ty : FieldType} {f : Nat → Value} {A : Nat → Prop} (hf : va_OF "java/lang/String" "value" "[B" (.ref adV) N A s s.heap) (ht : tm.eval args s none [] s = some (.ref N)) (hex : (Cond.exactly (.field tm "java/lang/String" "value" "[B") C).before args s = true) : (Term.field tm "java/lang/String" "value" "[B").eval args s none [] s = some (.ref adV) := by
  obtain ⟨a, c, cA', kA, q1, q2, q3, q4, q5, q6, -⟩ := Cond.exactly_spec (args := args) (first := s) (o := none) (s := s) (idx := []) (t := .field tm "java/lang/String" "value" "[B") (cls := C) hex
  have h2 := vk_OFof (A := A) ht q1
  obtain ⟨cf, k, i, f1, cell, g1, g2, g3, g4, g5, g6⟩ := hf
  cases hfo : s.fieldFound? "java/lang/String" "value" "[B" with
  | none => rw [hfo] at g1; cases g1
  | some x =>
    obtain ⟨cf', k', i', f'⟩ := x
    obtain ⟨w1, cell', w2, w3, -, -, w6⟩ := Term.field_spec hfo ht q1
    rw [hfo] at g1
    cases g1
    cases w2.symm.trans g3
    cases w6.symm.trans g5
    exact q1
theorem getE_lt {H : Heap} {a : Nat} {cell : Cell} (h : H[a]? = some cell) : a < H.size := (Array.getElem?_eq_some_iff.mp h).1
theorem start_rel {s : State} {D : va_G} {gA' : Nat → ClassId} {adK adV : Nat → Nat} {em t1 t2 : Nat} {st : Nat → Option Nat} (hD : ∀ (k : Nat) (r : vw_C), vwCl[k]? = some r → u_Kn s r.1 r.2.1 r.2.2 (D.1 k) (D.2 k)) (hSt : vk_S 10 strLen strByt adK adV (fun q => s.heap.size ≤ q) s s.heap) (hV : ∀ i, i < 10 → arrW (adV i) (gA' 101) (strLen.getD i 0) (fun j => .int ((strByt.getD i []).getD j 0)) s.heap) (hE : arrW em (gA' 200) 0 (fun _ => .null) s.heap) : RelX (D, gA', s.heap.size, oa0 adK adV em t1 t2, s.heap, st) ((0, kd0, R0 st), I0) s.heap := by
  have hVl : ∀ i, i < 10 → adV i < s.heap.size := fun i hi => by obtain ⟨cell, h, -⟩ := hV i hi; exact getE_lt h
  have hKl : ∀ i, i < 10 → adK i < s.heap.size := fun i hi => by obtain ⟨⟨cell, h, -⟩, -⟩ := hSt.1 i hi; exact getE_lt h
  have hEl : em < s.heap.size := by obtain ⟨cell, h, -⟩ := hE; exact getE_lt h
  have hexN : exN = 64 := rfl
  have hexA : exA = 1000000000 := rfl
  have hexS : exS = 1000000063 := rfl
  have hoa : ∀ j, wad (D, gA', s.heap.size, oa0 adK adV em t1 t2, s.heap, st) (exA + j) = oa0 adK adV em t1 t2 j := by
    intro j
    unfold wad
    rw [if_neg (by omega), Nat.add_sub_cancel_left]
  refine ⟨⟨rfl, Nat.zero_le _⟩, fun q _ => rfl, ⟨fun j hj => ?_, fun k => (show R0 st exS k = st k from if_pos rfl)⟩, fun a ha => ?_⟩
  · show oa0 adK adV em t1 t2 j < s.heap.size
    unfold oa0
    by_cases h1 : j < 10
    · rw [if_pos h1]; exact hKl j h1
    · rw [if_neg h1]
      by_cases h2 : j < 20
      · rw [if_pos h2]; exact hVl _ (by omega)
      · rw [if_neg h2]
        by_cases h3 : j = 30
        · rw [if_pos h3]; exact hEl
        · rw [if_neg h3, if_neg (by omega), if_neg (by omega)]; exact hVl 0 (by decide)
  · rcases ha with ha | ⟨h1, h2⟩
    · exact absurd ha (Nat.not_lt_zero _)
    · refine ⟨fun h => absurd h1 (Nat.not_le.mpr h), fun _ => ?_⟩
      obtain ⟨j, rfl⟩ : ∃ j, a = exA + j := ⟨a - exA, by omega⟩
      unfold atxO
      rw [hoa]
      by_cases c1 : j < 10
      · have e : (((0, kd0, R0 st), I0) : XX).1.2.1 (exA + j) = (29, 0) := by
          show kd0 (exA + j) = _
          unfold kd0
          rw [if_neg (by omega), if_pos (by omega)]
        rw [e]
        refine ⟨fun _ => ⟨(RJ9, TJ9, 2), rfl, ?_⟩, fun h => absurd h (by show ¬ (100 ≤ 29); decide), fun h => absurd h (by show ¬ (200 ≤ 29); decide)⟩
        obtain ⟨⟨cell, g1, g2, g3, -⟩, ⟨cf, kk, i, f, cell1, f1, f2, f3, f4, f5, -⟩, ⟨cf', kk', i', f', cell2, f1', f2', f3', f4', f5', -⟩, -⟩ := hSt.1 j c1
        cases f3.symm.trans g1
        cases f3'.symm.trans f3
        have hKn := hD 29 (RJ9, TJ9, 2) rfl
        have hcl : cell.cls = D.1 29 := Option.some.inj (g3.symm.trans hKn.2.1)
        have ho1 : oa0 adK adV em t1 t2 j = adK j := if_pos c1
        rw [ho1]
        refine ⟨cell, g1, hcl, ⟨f4, fun q h => by rw [h] at g2; cases g2⟩, fun k hk => ?_⟩
        have hk2 : k = 0 ∨ k = 1 := by have : k < 2 := hk; omega
        rcases hk2 with rfl | rfl
        · obtain ⟨cf2, kf2, fi2, fd2, w1, w2⟩ := hKn.1 0 (by decide)
          have w3 := f1'.symm.trans w1
          cases w3
          show cell.slots[D.2 29 0]? = _
          rw [← w2, f5']
          show _ = some (va_rf (((R0 st) (exA + j) 0).map _))
          have hr0 : R0 st (exA + j) 0 = some (exA + (j + 10)) := by
            unfold R0
            rw [if_neg (by omega), if_pos ⟨by omega, by omega, rfl⟩]
            rfl
          rw [hr0]
          show _ = some (Value.ref (wad _ (exA + (j + 10))))
          rw [hoa]
          have ho2 : oa0 adK adV em t1 t2 (j + 10) = adV j := by
            unfold oa0
            rw [if_neg (by omega), if_pos (by omega), Nat.add_sub_cancel]
          rw [ho2]
        · obtain ⟨cf2, kf2, fi2, fd2, w1, w2⟩ := hKn.1 1 (by decide)
          have w3 := f1.symm.trans w1
          cases w3
          show cell.slots[D.2 29 1]? = _
          rw [← w2, f5]
          show _ = some (Value.int (I0 (exA + j) 1))
          have hi0 : I0 (exA + j) 1 = 0 := if_pos (by omega)
          rw [hi0]
      · by_cases c2 : j < 20
        · have e : (((0, kd0, R0 st), I0) : XX).1.2.1 (exA + j) = (101, strLen.getD (j - 10) 0) := by
            show kd0 (exA + j) = _
            unfold kd0
            rw [if_neg (by omega), if_neg (by omega), if_pos (by omega), Nat.add_sub_cancel_left]
          rw [e]
          refine ⟨fun h => absurd h (by show ¬ (101 < 100); decide), fun _ _ => ?_, fun h => absurd h (by show ¬ (200 ≤ 101); decide)⟩
          have ho1 : oa0 adK adV em t1 t2 j = adV (j - 10) := by
            unfold oa0
            rw [if_neg c1, if_pos c2]
          rw [ho1]
          have hi : (fun q => Value.int ((((0, kd0, R0 st), I0) : XX).2 (exA + j) q)) = fun q => .int ((strByt.getD (j - 10) []).getD q 0) := by
            funext q
            show Value.int (I0 (exA + j) q) = _
            unfold I0
            rw [if_neg (by omega), if_pos (by omega), Nat.add_sub_cancel_left]
          rw [hi]
          exact hV (j - 10) (by omega)
        · by_cases c3 : j = 30
          · subst c3
            have e : (((0, kd0, R0 st), I0) : XX).1.2.1 (exA + 30) = (200, 0) := by
              show kd0 (exA + 30) = _
              unfold kd0
              rw [if_neg (by omega), if_neg (by omega), if_neg (by omega), if_pos rfl]
            rw [e]
            refine ⟨fun h => absurd h (by show ¬ (200 < 100); decide), fun _ h => absurd h (by show ¬ (200 < 200); decide), fun _ => ?_⟩
            have ho1 : oa0 adK adV em t1 t2 30 = em := rfl
            rw [ho1]
            obtain ⟨cell, g1, g2, g3, g4, g5⟩ := hE
            exact ⟨cell, g1, g2, g3, g4, fun q hq => absurd hq (Nat.not_lt_zero _)⟩
          · have e : (((0, kd0, R0 st), I0) : XX).1.2.1 (exA + j) = (101, 7) := by
              show kd0 (exA + j) = _
              unfold kd0
              rw [if_neg (by omega), if_neg (by omega), if_neg (by omega), if_neg (by omega)]
            rw [e]
            refine ⟨fun h => absurd h (by show ¬ (101 < 100); decide), fun _ _ => ?_, fun h => absurd h (by show ¬ (200 ≤ 101); decide)⟩
            have ho1 : oa0 adK adV em t1 t2 j = adV 0 := by
              unfold oa0
              rw [if_neg c1, if_neg c2, if_neg c3, if_neg (by omega), if_neg (by omega)]
            rw [ho1]
            have hi : (fun q => Value.int ((((0, kd0, R0 st), I0) : XX).2 (exA + j) q)) = fun q => .int ((strByt.getD 0 []).getD q 0) := by
              funext q
              show Value.int (I0 (exA + j) q) = _
              unfold I0
              rw [if_neg (by omega), if_neg (by omega)]
            rw [hi]
            exact hV 0 (by decide)
theorem zq_o {C n d : String} {A : Nat → Prop} {U : State} {H : Heap} (h : va_Zq C n d A U H) : ∃ o : Option Nat, va_Z C n d (va_rf o) A U H := by
  rcases h with h | ⟨t, h⟩
  · exact ⟨none, h⟩
  · exact ⟨some t, h⟩
theorem forget_new {s t : State} {L : List Loc} {k n : Nat} (h : s.sameButNew t L k n) (hL : ∀ q ∈ L, s.heap.size ≤ q.base) : s.sameButNew t [] k n := by
  obtain ⟨h1, h2, h3, h4, h5, h6⟩ := h
  refine ⟨h1, h2, h3, h4, h5, fun a c ha => ?_⟩
  obtain ⟨c', g1, g2, g3, g4⟩ := h6 a c ha
  exact ⟨c', g1, g2, g3, fun i _ => g4 i (fun hm => absurd (hL _ hm) (Nat.not_le.mpr (getE_lt ha)))⟩

set_option maxHeartbeats 4000000 in
theorem start_m1 : ∀ i, i < 10 → Cond.exactly (tmS i) "java/lang/String" ∈ flatC (Jvm.Cond.and given_1 narrow_1) := by decide +kernel
set_option maxHeartbeats 4000000 in
theorem start_m2 : ∀ i, i < 10 → Cond.eq (.field (tmS i) "java/lang/String" "coder" "B") (.int 0) ∈ flatC (Jvm.Cond.and given_1 narrow_1) := by decide +kernel
set_option maxHeartbeats 4000000 in
theorem start_m3 : ∀ i, i < 10 → Cond.arrayOf (.field (tmS i) "java/lang/String" "value" "[B") .byte ∈ flatC (Jvm.Cond.and given_1 narrow_1) := by decide +kernel
set_option maxHeartbeats 4000000 in
theorem start_m4 : ∀ i, i < 10 → Cond.eq (.length (.field (tmS i) "java/lang/String" "value" "[B")) (.int (Int32.ofNat (strLen.getD i 0))) ∈ flatC (Jvm.Cond.and given_1 narrow_1) := by decide +kernel
set_option maxHeartbeats 4000000 in
theorem start_m5 : ∀ i, i < 10 → ∀ j, j < strLen.getD i 0 → Cond.eq (.elem (.field (tmS i) "java/lang/String" "value" "[B") (.int (Int32.ofNat j))) (.int ((strByt.getD i []).getD j 0)) ∈ flatC (Jvm.Cond.and given_1 narrow_1) := by decide +kernel
set_option maxHeartbeats 4000000 in
theorem start_m6 : ∀ i, i < 10 → ∀ j, j < 10 → i ≠ j → Cond.not (Cond.eq (tmS i) (tmS j)) ∈ flatC (Jvm.Cond.and given_1 narrow_1) ∨ Cond.not (Cond.eq (tmS j) (tmS i)) ∈ flatC (Jvm.Cond.and given_1 narrow_1) := by decide +kernel
set_option maxHeartbeats 4000000 in
theorem start_m7 : ∀ i, i < 10 → Cond.exactly (.field (tmS i) "java/lang/String" "value" "[B") "[B" ∈ flatC (Jvm.Cond.and given_1 narrow_1) := by decide +kernel
theorem start_sr : ∀ (j : Nat) (z : String × Nat × String), strT[j]? = some z → Cond.stringRef z.1 z.2.1 z.2.2 ∈ lw_tbl ∧ j < 10 ∧ tmS j = Term.string z.1 z.2.1 := by
  intro j z h
  match j, h with
  | 0, h => cases h; exact ⟨q912, by decide, rfl⟩
  | 1, h => cases h; exact ⟨q839, by decide, rfl⟩
  | 2, h => cases h; exact ⟨q900, by decide, rfl⟩
  | 3, h => cases h; exact ⟨q1102, by decide, rfl⟩
  | 4, h => cases h; exact ⟨q1101, by decide, rfl⟩
  | 5, h => cases h; exact ⟨q1100, by decide, rfl⟩
  | 6, h => cases h; exact ⟨q1099, by decide, rfl⟩
  | 7, h => cases h; exact ⟨q1082, by decide, rfl⟩
  | 8, h => cases h; exact ⟨q1032, by decide, rfl⟩
  | 9, h => cases h; exact ⟨q1070, by decide, rfl⟩
  | k + 10, h => simp [strT] at h
set_option maxHeartbeats 4000000 in
theorem start_all {b : Nat} {s : State} (hts0 : ∀ w ∈ lw_tbl, w.before #[Value.ref b] s = true) (hgv : (Jvm.Cond.and given_1 narrow_1).before #[Value.ref b] s = true) : ∃ (G : WG) (st : Nat → Option Nat), Kx G s ∧ RelX G ((0, kd0, R0 st), I0) s.heap ∧ gb G = s.heap.size ∧ G.2.2.2.2.1 = s.heap ∧ st 0 = some (exA + 30) ∧ (∀ j a, st j = some a → exA ≤ a) := by
  have hts : ∀ w ∈ lw_all, w.before #[Value.ref b] s = true := fun w h => hts0 w (lw_all_tbl h)
  have hs := flat_of_before _ hgv
  have hA : ∀ a : Nat, a < s.heap.size → ¬ s.heap.size ≤ a := fun a h => Nat.not_le.mpr h
  obtain ⟨D, hD⟩ := start_K hts0
  obtain ⟨c0, a0, r0⟩ := start_A1 (ty := .int) rfl (hts0 _ (lw_all_tbl q247)) (fun c h => h)
  obtain ⟨c1, a1, r1⟩ := start_A1 (ty := .byte) rfl (hts0 _ (lw_all_tbl q273)) (fun c h => h)
  obtain ⟨c2, a2, r2⟩ := start_A1 (ty := .short) rfl (hts0 _ (lw_all_tbl q1851)) (fun c h => h)
  obtain ⟨c3, a3, r3⟩ := start_A2 (C := "java/lang/Object") (hts0 _ q1317)
  obtain ⟨c4, a4, r4⟩ := start_A2 (C := "NineDemands$Shelf") (hts0 _ q362)
  obtain ⟨adK, adV, hSt, hev⟩ := vk_Sof (N := 10) (tm := tmS) (len := strLen) (byt := strByt) (A := fun q => s.heap.size ≤ q) (by decide) (fun i hi => hs _ (start_m1 i hi)) (fun i hi => hs _ (start_m2 i hi)) (fun i hi => hs _ (start_m3 i hi)) (fun i hi => hs _ (start_m4 i hi)) (fun i hi j hj => hs _ (start_m5 i hi j hj)) (fun i j hi hj hij => (start_m6 i hi j hj hij).elim (fun h => Or.inl (hs _ h)) (fun h => Or.inr (hs _ h))) hA
  obtain ⟨em, hem, hT⟩ := va_Tof (tm := .static "java/util/ArrayList" "DEFAULTCAPACITY_EMPTY_ELEMENTDATA" "[Ljava/lang/Object;") (ty := .object "java/lang/Object") (N := 0) (f := fun _ => .null) (A := fun q => s.heap.size ≤ q) (by decide) (hs _ (by decide +kernel)) (va_eqt (hs (Cond.eq (.length (.static "java/util/ArrayList" "DEFAULTCAPACITY_EMPTY_ELEMENTDATA" "[Ljava/lang/Object;")) (.int 0)) (by decide +kernel))) (fun j hj => absurd hj (Nat.not_lt_zero _)) hA
  have z0 := va_Zof (A := fun q => s.heap.size ≤ q) (hts0 _ q234) (hts0 _ (lw_all_tbl q99)) hem hA
  obtain ⟨o1, z1⟩ := zq_o (va_Zqof (A := fun q => s.heap.size ≤ q) (hts0 _ q173) (hts0 _ (lw_all_tbl q92)) (hs _ (by decide +kernel)) hA)
  obtain ⟨o2, z2⟩ := zq_o (va_Zqof (A := fun q => s.heap.size ≤ q) (hts0 _ q175) (hts0 _ (lw_all_tbl q92)) (hs _ (by decide +kernel)) hA)
  have zc := va_Zof (A := fun q => s.heap.size ≤ q) (hts0 _ q691) (hts0 _ (lw_all_tbl q117)) (va_eqt (hs (Cond.eq (.static "java/lang/String" "COMPACT_STRINGS" "Z") (.int 1)) (by decide +kernel))) hA
  let gA' : Nat → ClassId := fun t => if t = 100 then c0 else if t = 101 then c1 else if t = 102 then c2 else if t = 200 then c3 else c4
  let st : Nat → Option Nat := fun j => if j = 0 then some (exA + 30) else if j = 1 then o1.map (fun _ => exA + 64) else o2.map (fun _ => exA + 65)
  have hV : ∀ i, i < 10 → arrW (adV i) (gA' 101) (strLen.getD i 0) (fun j => .int ((strByt.getD i []).getD j 0)) s.heap := fun i hi =>
    (hSt.1 i hi).2.2.2.arrW (H := s.heap) (hs _ (start_m7 i hi)) (str_eval (ty := .byte) (f := fun _ => .null) (hSt.1 i hi).2.2.1 (hev i hi) (hs _ (start_m7 i hi))) r1
  have hE : arrW em (gA' 200) 0 (fun _ => .null) s.heap := hT.arrW (H := s.heap) (hs (Cond.exactly (.static "java/util/ArrayList" "DEFAULTCAPACITY_EMPTY_ELEMENTDATA" "[Ljava/lang/Object;") "[Ljava/lang/Object;") (by decide +kernel)) hem r3.choose_spec.choose_spec.2.2.2
  have hexA : exA = 1000000000 := rfl
  have hoa : ∀ j, wad (D, gA', s.heap.size, oa0 adK adV em (o1.getD 0) (o2.getD 0), s.heap, st) (exA + j) = oa0 adK adV em (o1.getD 0) (o2.getD 0) j := by
    intro j
    unfold wad
    rw [if_neg (by omega), Nat.add_sub_cancel_left]
  refine ⟨(D, gA', s.heap.size, oa0 adK adV em (o1.getD 0) (o2.getD 0), s.heap, st), st, ⟨⟨hD, ?_⟩, fun w hw hg => va_Nw.of (nwW_onTables hg) (hts0 w hw), ?_⟩, start_rel hD hSt hV hE, rfl, rfl, rfl, ?_⟩
  · intro k q hk
    match k, hk with
    | 0, hk => cases hk; exact ⟨a0, r0⟩
    | 1, hk => cases hk; exact ⟨a1, r1⟩
    | 2, hk => cases hk; exact ⟨a2, r2⟩
    | 3, hk => cases hk; exact ⟨a3, r3⟩
    | 4, hk => cases hk; exact ⟨a4, r4⟩
    | k + 5, hk => simp [tysX] at hk
  · refine ⟨va_Nc.of (hs (Cond.not (.castable "NineDemands$Finding" "NineDemands$Fault")) (by decide +kernel)), fun C x y b1 b2 b3 b4 b5 b6 => va_Fw.of (hts0 _ b1) (hts0 _ b2) (hts0 _ b3) (hts0 _ b4) (hts0 _ b5), fun C b1 => va_AO.of (hts0 _ b1), fun j z hz => ?_, zc, fun j z hz => ?_⟩
    · obtain ⟨g1, g2, g3⟩ := start_sr j z hz
      rw [hoa, show oa0 adK adV em (o1.getD 0) (o2.getD 0) j = adK j from if_pos g2]
      have h9 := hev j g2
      rw [g3] at h9
      exact vk_R.of (hts0 _ g1) h9
    · match j, hz with
      | 0, hz =>
        cases hz
        show va_Z _ _ _ (Value.ref (wad _ (exA + 30))) _ _ _
        rw [hoa]
        exact z0
      | 1, hz =>
        cases hz
        show va_Z _ _ _ (va_rf ((o1.map (fun _ => exA + 64)).map (wad _))) _ _ _
        cases o1 with
        | none => exact z1
        | some t =>
          show va_Z _ _ _ (Value.ref (wad _ (exA + 64))) _ _ _
          rw [hoa]
          exact z1
      | 2, hz =>
        cases hz
        show va_Z _ _ _ (va_rf ((o2.map (fun _ => exA + 65)).map (wad _))) _ _ _
        cases o2 with
        | none => exact z2
        | some t =>
          show va_Z _ _ _ (Value.ref (wad _ (exA + 65))) _ _ _
          rw [hoa]
          exact z2
      | k + 3, hz => simp [sttT] at hz
  · intro j a h
    show exA ≤ a
    have h : (if j = 0 then some (exA + 30) else if j = 1 then o1.map (fun _ => exA + 64) else o2.map (fun _ => exA + 65)) = some a := h
    split at h
    · cases h; omega
    · split at h
      · cases o1 with
        | none => cases h
        | some t => cases h; exact Nat.le_add_right _ _
      · cases o2 with
        | none => cases h
        | some t => cases h; exact Nat.le_add_right _ _
def f_start (F : Nat) (sh : SH) (I : II) : Option (SH × II) := bd2 (f_X0_init F (newS sh 0 0) sh.1 (newI sh I)) fun S1 I1 => og (S1.1 = 27) <| (f_X9_initB F (IM20 (28, (newS (27, S1.2.1, S1.2.2) 10 0).2.1, (newS (27, S1.2.1, S1.2.2) 10 0).2.2) (newI (27, S1.2.1, S1.2.2) I1))).bind fun I2 => some (shM20 (28, (newS (27, S1.2.1, S1.2.2) 10 0).2.1, (newS (27, S1.2.1, S1.2.2) 10 0).2.2), I2)
def f_all (F L q : Nat) (xs : Nat → Int32) (st : Nat → Option Nat) : Option (SH × II) := bd2 (f_start F (0, kd0, R0 st) I0) fun S I => f_law F L xs q 0 S I

set_option maxHeartbeats 4000000 in
theorem law_begin {hh : List (Nat × Nat × Nat × Nat)} {G : WG} {p : Program} {l : Launch} {e : Env} {s : State} {m : MethodId} {args : Array Value} {below : List Frame} {meth : Method} {c : Code} {mn : String} {F b L q : Nat} {xs : Nat → Int32} {st : Nat → Option Nat} (C : Cx G p room_1 s m args meth c cL_law "NineDemandsLaw" 4 (some .boolean) hh mn) (hX : va_X b L xs s G.2.2.2.2.1) (hb : b < gb G) (hL9 : L ≤ 384) {Z : SH × II} (hk : f_all F L q xs st = some Z) : J G p l e room_1 s m args below meth c 4 (.returned (some (.int (nI 1)))) Z 601024 7293034 ((0, kd0, R0 st), I0) 0 0 0 [some (.ref b), none, none, none] [] := by
  unfold f_all at hk
  replace hk := bd2_some hk
  obtain ⟨S, I, h1, hk⟩ := hk
  unfold f_start at h1
  replace h1 := bd2_some h1
  obtain ⟨S1, I1, h2, h1⟩ := h1
  obtain ⟨n1, kd1, R1⟩ := S1
  replace h1 := og_some h1
  obtain ⟨h3, h1⟩ := h1
  have h3 : n1 = 27 := h3
  subst h3
  replace h1 := ob_some h1
  obtain ⟨I2, h4, h1⟩ := h1
  obtain rfl := (Prod.mk.inj (Option.some.inj h1)).1
  obtain rfl := (Prod.mk.inj (Option.some.inj h1)).2
  refine x_new (pc := 0) (c2 := 0) C rfl (born_0) q138 q139 q91 (Nat.le_of_ble_eq_true rfl) (Nat.le_of_ble_eq_true rfl) (Nat.le_of_ble_eq_true rfl) dL_law_0 ?_
  refine j_kn (k' := 1) (n' := 11) rfl rfl ?_
  refine j_dup (pc := 3) C dL_law_3 rfl ?_
  refine x_callI (pc := 4) C (ct_X0_init h2) mi_X0_init q140 dL_law_4 rfl rfl (Nat.le_of_ble_eq_true rfl) rfl ?_
  refine j_kn (k' := 27) (n' := 5211) rfl rfl ?_
  refine j_astore_n (pc := 7) C dL_law_7 rfl (Nat.le_of_ble_eq_true rfl) rfl ?_
  refine x_new (pc := 8) (c2 := 10) C rfl (born_10) q1977 q1978 q106 (Nat.le_of_ble_eq_true rfl) (Nat.le_of_ble_eq_true rfl) (Nat.le_of_ble_eq_true rfl) dL_law_8 ?_
  refine j_kn (k' := 28) (n' := 5244) rfl rfl ?_
  refine j_dup (pc := 11) C dL_law_11 rfl ?_
  refine x_callI (pc := 12) C (ct_X9_init rfl h4) mi_X9_init q1979 dL_law_12 rfl rfl (Nat.le_of_ble_eq_true rfl) rfl ?_
  refine j_kn (k' := 48) (n' := 10939) rfl rfl ?_
  refine j_astore_n (pc := 15) C dL_law_15 rfl (Nat.le_of_ble_eq_true rfl) rfl ?_
  refine j_iconst (pc := 16) (v := nI 0) C dL_law_16 (by decide) ?_
  refine j_istore_n (pc := 17) C dL_law_17 rfl (Nat.le_of_ble_eq_true rfl) rfl ?_
  refine j_wid (k' := 48) (n' := 200 * 48 + 8000) (Nat.le_refl _) (by decide) ?_
  exact law_loop C hX hb hL9 q 0 _ _ hk
