set_option maxRecDepth 100000
/-- the class's own lasting cells stand where its constructor put them -/
abbrev stN (sh : SH) : Prop := 27 ≤ sh.1 ∧ (sh.2.1 0).1 = 0 ∧ (sh.2.1 1).1 = 1 ∧ (sh.2.1 7).1 = 4 ∧ (sh.2.1 9).1 = 5 ∧ (sh.2.1 11).1 = 6 ∧ (sh.2.1 12).1 = 7 ∧ (sh.2.1 17).1 = 8 ∧ (sh.2.1 23).1 = 9 ∧ (sh.2.1 24).1 = 9 ∧ (sh.2.1 25).1 = 9 ∧ (sh.2.1 26).1 = 9 ∧ sh.2.2 0 0 = some 1 ∧ sh.2.2 0 4 = some 7 ∧ sh.2.2 0 5 = some 9 ∧ sh.2.2 0 6 = some 11 ∧ sh.2.2 0 7 = some 17 ∧ sh.2.2 0 8 = some 20 ∧ sh.2.2 0 9 = some 21 ∧ sh.2.2 0 10 = some 22 ∧ sh.2.2 7 0 = some 8 ∧ sh.2.2 9 0 = some 10 ∧ sh.2.2 11 0 = some 12 ∧ sh.2.2 11 1 = some 15 ∧ sh.2.2 11 2 = some 16 ∧ sh.2.2 12 0 = some 13 ∧ sh.2.2 12 1 = some 14 ∧ sh.2.2 17 0 = some 18 ∧ sh.2.2 17 1 = some 19 ∧ sh.2.2 22 0 = some 23 ∧ sh.2.2 22 1 = some 24 ∧ sh.2.2 22 2 = some 25 ∧ sh.2.2 22 3 = some 26 ∧ sh.2.1 8 = (100, 40) ∧ sh.2.1 10 = (100, 128) ∧ sh.2.1 13 = (100, 12) ∧ sh.2.1 14 = (100, 144) ∧ sh.2.1 15 = (100, 156) ∧ sh.2.1 16 = (100, 12) ∧ sh.2.1 18 = (100, 36) ∧ sh.2.1 19 = (100, 12) ∧ sh.2.1 20 = (100, 12) ∧ sh.2.1 21 = (100, 6) ∧ sh.2.1 22 = (201, 4)
theorem stN_o0 {sh : SH} (h : stN sh) : obw sh 0 0 := ⟨Nat.lt_of_lt_of_le (by decide) h.1, h.2.1⟩
theorem stN_o1 {sh : SH} (h : stN sh) : obw sh 1 1 := ⟨Nat.lt_of_lt_of_le (by decide) h.1, h.2.2.1⟩
theorem stN_o7 {sh : SH} (h : stN sh) : obw sh 7 4 := ⟨Nat.lt_of_lt_of_le (by decide) h.1, h.2.2.2.1⟩
theorem stN_o9 {sh : SH} (h : stN sh) : obw sh 9 5 := ⟨Nat.lt_of_lt_of_le (by decide) h.1, h.2.2.2.2.1⟩
theorem stN_o11 {sh : SH} (h : stN sh) : obw sh 11 6 := ⟨Nat.lt_of_lt_of_le (by decide) h.1, h.2.2.2.2.2.1⟩
theorem stN_o12 {sh : SH} (h : stN sh) : obw sh 12 7 := ⟨Nat.lt_of_lt_of_le (by decide) h.1, h.2.2.2.2.2.2.1⟩
theorem stN_o17 {sh : SH} (h : stN sh) : obw sh 17 8 := ⟨Nat.lt_of_lt_of_le (by decide) h.1, h.2.2.2.2.2.2.2.1⟩
theorem stN_o23 {sh : SH} (h : stN sh) : obw sh 23 9 := ⟨Nat.lt_of_lt_of_le (by decide) h.1, h.2.2.2.2.2.2.2.2.1⟩
theorem stN_o24 {sh : SH} (h : stN sh) : obw sh 24 9 := ⟨Nat.lt_of_lt_of_le (by decide) h.1, h.2.2.2.2.2.2.2.2.2.1⟩
theorem stN_o25 {sh : SH} (h : stN sh) : obw sh 25 9 := ⟨Nat.lt_of_lt_of_le (by decide) h.1, h.2.2.2.2.2.2.2.2.2.2.1⟩
theorem stN_o26 {sh : SH} (h : stN sh) : obw sh 26 9 := ⟨Nat.lt_of_lt_of_le (by decide) h.1, h.2.2.2.2.2.2.2.2.2.2.2.1⟩
theorem stN_r0_0 {sh : SH} (h : stN sh) : rf sh 0 0 1 := h.2.2.2.2.2.2.2.2.2.2.2.2.1
theorem stN_r0_4 {sh : SH} (h : stN sh) : rf sh 0 4 7 := h.2.2.2.2.2.2.2.2.2.2.2.2.2.1
theorem stN_r0_5 {sh : SH} (h : stN sh) : rf sh 0 5 9 := h.2.2.2.2.2.2.2.2.2.2.2.2.2.2.1
theorem stN_r0_6 {sh : SH} (h : stN sh) : rf sh 0 6 11 := h.2.2.2.2.2.2.2.2.2.2.2.2.2.2.2.1
theorem stN_r0_7 {sh : SH} (h : stN sh) : rf sh 0 7 17 := h.2.2.2.2.2.2.2.2.2.2.2.2.2.2.2.2.1
theorem stN_r0_8 {sh : SH} (h : stN sh) : rf sh 0 8 20 := h.2.2.2.2.2.2.2.2.2.2.2.2.2.2.2.2.2.1
theorem stN_r0_9 {sh : SH} (h : stN sh) : rf sh 0 9 21 := h.2.2.2.2.2.2.2.2.2.2.2.2.2.2.2.2.2.2.1
theorem stN_r0_10 {sh : SH} (h : stN sh) : rf sh 0 10 22 := h.2.2.2.2.2.2.2.2.2.2.2.2.2.2.2.2.2.2.2.1
theorem stN_r7_0 {sh : SH} (h : stN sh) : rf sh 7 0 8 := h.2.2.2.2.2.2.2.2.2.2.2.2.2.2.2.2.2.2.2.2.1
theorem stN_r9_0 {sh : SH} (h : stN sh) : rf sh 9 0 10 := h.2.2.2.2.2.2.2.2.2.2.2.2.2.2.2.2.2.2.2.2.2.1
theorem stN_r11_0 {sh : SH} (h : stN sh) : rf sh 11 0 12 := h.2.2.2.2.2.2.2.2.2.2.2.2.2.2.2.2.2.2.2.2.2.2.1
theorem stN_r11_1 {sh : SH} (h : stN sh) : rf sh 11 1 15 := h.2.2.2.2.2.2.2.2.2.2.2.2.2.2.2.2.2.2.2.2.2.2.2.1
theorem stN_r11_2 {sh : SH} (h : stN sh) : rf sh 11 2 16 := h.2.2.2.2.2.2.2.2.2.2.2.2.2.2.2.2.2.2.2.2.2.2.2.2.1
theorem stN_r12_0 {sh : SH} (h : stN sh) : rf sh 12 0 13 := h.2.2.2.2.2.2.2.2.2.2.2.2.2.2.2.2.2.2.2.2.2.2.2.2.2.1
theorem stN_r12_1 {sh : SH} (h : stN sh) : rf sh 12 1 14 := h.2.2.2.2.2.2.2.2.2.2.2.2.2.2.2.2.2.2.2.2.2.2.2.2.2.2.1
theorem stN_r17_0 {sh : SH} (h : stN sh) : rf sh 17 0 18 := h.2.2.2.2.2.2.2.2.2.2.2.2.2.2.2.2.2.2.2.2.2.2.2.2.2.2.2.1
theorem stN_r17_1 {sh : SH} (h : stN sh) : rf sh 17 1 19 := h.2.2.2.2.2.2.2.2.2.2.2.2.2.2.2.2.2.2.2.2.2.2.2.2.2.2.2.2.1
theorem stN_r22_0 {sh : SH} (h : stN sh) : rf sh 22 0 23 := h.2.2.2.2.2.2.2.2.2.2.2.2.2.2.2.2.2.2.2.2.2.2.2.2.2.2.2.2.2.1
theorem stN_r22_1 {sh : SH} (h : stN sh) : rf sh 22 1 24 := h.2.2.2.2.2.2.2.2.2.2.2.2.2.2.2.2.2.2.2.2.2.2.2.2.2.2.2.2.2.2.1
theorem stN_r22_2 {sh : SH} (h : stN sh) : rf sh 22 2 25 := h.2.2.2.2.2.2.2.2.2.2.2.2.2.2.2.2.2.2.2.2.2.2.2.2.2.2.2.2.2.2.2.1
theorem stN_r22_3 {sh : SH} (h : stN sh) : rf sh 22 3 26 := h.2.2.2.2.2.2.2.2.2.2.2.2.2.2.2.2.2.2.2.2.2.2.2.2.2.2.2.2.2.2.2.2.1
theorem stN_a8 {sh : SH} (h : stN sh) : arw sh 8 100 40 := ⟨Nat.lt_of_lt_of_le (by decide) h.1, h.2.2.2.2.2.2.2.2.2.2.2.2.2.2.2.2.2.2.2.2.2.2.2.2.2.2.2.2.2.2.2.2.2.1⟩
theorem stN_a10 {sh : SH} (h : stN sh) : arw sh 10 100 128 := ⟨Nat.lt_of_lt_of_le (by decide) h.1, h.2.2.2.2.2.2.2.2.2.2.2.2.2.2.2.2.2.2.2.2.2.2.2.2.2.2.2.2.2.2.2.2.2.2.1⟩
theorem stN_a13 {sh : SH} (h : stN sh) : arw sh 13 100 12 := ⟨Nat.lt_of_lt_of_le (by decide) h.1, h.2.2.2.2.2.2.2.2.2.2.2.2.2.2.2.2.2.2.2.2.2.2.2.2.2.2.2.2.2.2.2.2.2.2.2.1⟩
theorem stN_a14 {sh : SH} (h : stN sh) : arw sh 14 100 144 := ⟨Nat.lt_of_lt_of_le (by decide) h.1, h.2.2.2.2.2.2.2.2.2.2.2.2.2.2.2.2.2.2.2.2.2.2.2.2.2.2.2.2.2.2.2.2.2.2.2.2.1⟩
theorem stN_a15 {sh : SH} (h : stN sh) : arw sh 15 100 156 := ⟨Nat.lt_of_lt_of_le (by decide) h.1, h.2.2.2.2.2.2.2.2.2.2.2.2.2.2.2.2.2.2.2.2.2.2.2.2.2.2.2.2.2.2.2.2.2.2.2.2.2.1⟩
theorem stN_a16 {sh : SH} (h : stN sh) : arw sh 16 100 12 := ⟨Nat.lt_of_lt_of_le (by decide) h.1, h.2.2.2.2.2.2.2.2.2.2.2.2.2.2.2.2.2.2.2.2.2.2.2.2.2.2.2.2.2.2.2.2.2.2.2.2.2.2.1⟩
theorem stN_a18 {sh : SH} (h : stN sh) : arw sh 18 100 36 := ⟨Nat.lt_of_lt_of_le (by decide) h.1, h.2.2.2.2.2.2.2.2.2.2.2.2.2.2.2.2.2.2.2.2.2.2.2.2.2.2.2.2.2.2.2.2.2.2.2.2.2.2.2.1⟩
theorem stN_a19 {sh : SH} (h : stN sh) : arw sh 19 100 12 := ⟨Nat.lt_of_lt_of_le (by decide) h.1, h.2.2.2.2.2.2.2.2.2.2.2.2.2.2.2.2.2.2.2.2.2.2.2.2.2.2.2.2.2.2.2.2.2.2.2.2.2.2.2.2.1⟩
theorem stN_a20 {sh : SH} (h : stN sh) : arw sh 20 100 12 := ⟨Nat.lt_of_lt_of_le (by decide) h.1, h.2.2.2.2.2.2.2.2.2.2.2.2.2.2.2.2.2.2.2.2.2.2.2.2.2.2.2.2.2.2.2.2.2.2.2.2.2.2.2.2.2.1⟩
theorem stN_a21 {sh : SH} (h : stN sh) : arw sh 21 100 6 := ⟨Nat.lt_of_lt_of_le (by decide) h.1, h.2.2.2.2.2.2.2.2.2.2.2.2.2.2.2.2.2.2.2.2.2.2.2.2.2.2.2.2.2.2.2.2.2.2.2.2.2.2.2.2.2.2.1⟩
theorem stN_a22 {sh : SH} (h : stN sh) : arw sh 22 201 4 := ⟨Nat.lt_of_lt_of_le (by decide) h.1, h.2.2.2.2.2.2.2.2.2.2.2.2.2.2.2.2.2.2.2.2.2.2.2.2.2.2.2.2.2.2.2.2.2.2.2.2.2.2.2.2.2.2.2⟩
def stNb (sh : SH) : Bool := decide (27 ≤ sh.1) && (decide ((sh.2.1 0).1 = 0) && (decide ((sh.2.1 1).1 = 1) && (decide ((sh.2.1 7).1 = 4) && (decide ((sh.2.1 9).1 = 5) && (decide ((sh.2.1 11).1 = 6) && (decide ((sh.2.1 12).1 = 7) && (decide ((sh.2.1 17).1 = 8) && (decide ((sh.2.1 23).1 = 9) && (decide ((sh.2.1 24).1 = 9) && (decide ((sh.2.1 25).1 = 9) && (decide ((sh.2.1 26).1 = 9) && (decide (sh.2.2 0 0 = some 1) && (decide (sh.2.2 0 4 = some 7) && (decide (sh.2.2 0 5 = some 9) && (decide (sh.2.2 0 6 = some 11) && (decide (sh.2.2 0 7 = some 17) && (decide (sh.2.2 0 8 = some 20) && (decide (sh.2.2 0 9 = some 21) && (decide (sh.2.2 0 10 = some 22) && (decide (sh.2.2 7 0 = some 8) && (decide (sh.2.2 9 0 = some 10) && (decide (sh.2.2 11 0 = some 12) && (decide (sh.2.2 11 1 = some 15) && (decide (sh.2.2 11 2 = some 16) && (decide (sh.2.2 12 0 = some 13) && (decide (sh.2.2 12 1 = some 14) && (decide (sh.2.2 17 0 = some 18) && (decide (sh.2.2 17 1 = some 19) && (decide (sh.2.2 22 0 = some 23) && (decide (sh.2.2 22 1 = some 24) && (decide (sh.2.2 22 2 = some 25) && (decide (sh.2.2 22 3 = some 26) && (decide (sh.2.1 8 = (100, 40)) && (decide (sh.2.1 10 = (100, 128)) && (decide (sh.2.1 13 = (100, 12)) && (decide (sh.2.1 14 = (100, 144)) && (decide (sh.2.1 15 = (100, 156)) && (decide (sh.2.1 16 = (100, 12)) && (decide (sh.2.1 18 = (100, 36)) && (decide (sh.2.1 19 = (100, 12)) && (decide (sh.2.1 20 = (100, 12)) && (decide (sh.2.1 21 = (100, 6)) && (decide (sh.2.1 22 = (201, 4)))))))))))))))))))))))))))))))))))))))))))))
theorem stNb_iff {sh : SH} : stNb sh = true ↔ stN sh := by
  simp only [stNb, Bool.and_eq_true, decide_eq_true_eq]
def ost {β : Type} (sh : SH) (f : Option β) : Option β := if stNb sh = true then f else none
theorem ost_some {β : Type} {sh : SH} {f : Option β} {r : β} (h : ost sh f = some r) : stN sh ∧ f = some r := by
  unfold ost at h
  split at h
  · exact ⟨stNb_iff.mp (by assumption), h⟩
  · cases h
def ockD {β : Type} (sh : SH) (a : Nat) (f : Option β) : Option β := if (a < sh.1 ∨ (exA ≤ a ∧ a < exA + exN)) ∧ ((sh.2.1 a).1 = 11 ∨ (sh.2.1 a).1 = 12 ∨ (sh.2.1 a).1 = 13 ∨ (sh.2.1 a).1 = 14 ∨ (sh.2.1 a).1 = 15 ∨ (sh.2.1 a).1 = 16) then f else none
theorem ockD_some {β : Type} {sh : SH} {a : Nat} {f : Option β} {r : β} (h : ockD sh a f = some r) : ∃ c2, (c2 = 11 ∨ c2 = 12 ∨ c2 = 13 ∨ c2 = 14 ∨ c2 = 15 ∨ c2 = 16) ∧ ob sh a c2 ∧ f = some r := by
  unfold ockD at h
  split at h
  · rename_i g
    exact ⟨_, g.2, ⟨g.1, rfl⟩, h⟩
  · cases h
def ockwD {β : Type} (sh : SH) (a : Nat) (f : Option β) : Option β := if a < sh.1 ∧ ((sh.2.1 a).1 = 11 ∨ (sh.2.1 a).1 = 12 ∨ (sh.2.1 a).1 = 13 ∨ (sh.2.1 a).1 = 14 ∨ (sh.2.1 a).1 = 15 ∨ (sh.2.1 a).1 = 16) then f else none
theorem ockwD_some {β : Type} {sh : SH} {a : Nat} {f : Option β} {r : β} (h : ockwD sh a f = some r) : ∃ c2, (c2 = 11 ∨ c2 = 12 ∨ c2 = 13 ∨ c2 = 14 ∨ c2 = 15 ∨ c2 = 16) ∧ obw sh a c2 ∧ f = some r := by
  unfold ockwD at h
  split at h
  · rename_i g
    exact ⟨_, g.2, ⟨g.1, rfl⟩, h⟩
  · cases h
theorem fdD_0 {q : Nat} (h : (q = 11 ∨ q = 12 ∨ q = 13 ∨ q = 14 ∨ q = 15 ∨ q = 16)) : FD q 0 "NineDemands$Demand" "trace" "LNineDemands$Trace;" true true (.object "NineDemands$Trace") := by
  rcases h with rfl | rfl | rfl | rfl | rfl | rfl
  · exact fd_11_0
  · exact fd_12_0
  · exact fd_13_0
  · exact fd_14_0
  · exact fd_15_0
  · exact fd_16_0
theorem fdD_1 {q : Nat} (h : (q = 11 ∨ q = 12 ∨ q = 13 ∨ q = 14 ∨ q = 15 ∨ q = 16)) : FD q 1 "NineDemands$Demand" "number" "I" true false .int := by
  rcases h with rfl | rfl | rfl | rfl | rfl | rfl
  · exact fd_11_1
  · exact fd_12_1
  · exact fd_13_1
  · exact fd_14_1
  · exact fd_15_1
  · exact fd_16_1
theorem fdD_2 {q : Nat} (h : (q = 11 ∨ q = 12 ∨ q = 13 ∨ q = 14 ∨ q = 15 ∨ q = 16)) : FD q 2 "NineDemands$Demand" "price" "I" false false .int := by
  rcases h with rfl | rfl | rfl | rfl | rfl | rfl
  · exact fd_11_2
  · exact fd_12_2
  · exact fd_13_2
  · exact fd_14_2
  · exact fd_15_2
  · exact fd_16_2
theorem fdD_3 {q : Nat} (h : (q = 11 ∨ q = 12 ∨ q = 13 ∨ q = 14 ∨ q = 15 ∨ q = 16)) : FD q 3 "NineDemands$Demand" "text" "LNineDemands$Term;" false true (.object "NineDemands$Term") := by
  rcases h with rfl | rfl | rfl | rfl | rfl | rfl
  · exact fd_11_3
  · exact fd_12_3
  · exact fd_13_3
  · exact fd_14_3
  · exact fd_15_3
  · exact fd_16_3
theorem fdD_4 {q : Nat} (h : (q = 11 ∨ q = 12 ∨ q = 13 ∨ q = 14 ∨ q = 15 ∨ q = 16)) : FD q 4 "NineDemands$Demand" "cases" "LNineDemands$Cases;" false true (.object "NineDemands$Cases") := by
  rcases h with rfl | rfl | rfl | rfl | rfl | rfl
  · exact fd_11_4
  · exact fd_12_4
  · exact fd_13_4
  · exact fd_14_4
  · exact fd_15_4
  · exact fd_16_4
theorem castD_NineDemands_Bars {q : Nat} (h : (q = 11 ∨ q = 12 ∨ q = 13 ∨ q = 14 ∨ q = 15 ∨ q = 16)) : ∃ cr : vw_C, vwCl[q]? = some cr ∧ (cr.1 = "NineDemands$Bars" ∨ Cond.castable cr.1 "NineDemands$Bars" ∈ lw_tbl) := by
  rcases h with rfl | rfl | rfl | rfl | rfl | rfl
  · exact ⟨_, rfl, Or.inr q1735⟩
  · exact ⟨_, rfl, Or.inr q1739⟩
  · exact ⟨_, rfl, Or.inr q1703⟩
  · exact ⟨_, rfl, Or.inr q1745⟩
  · exact ⟨_, rfl, Or.inr q1727⟩
  · exact ⟨_, rfl, Or.inr q1742⟩
theorem castD_NineDemands_Bids {q : Nat} (h : (q = 11 ∨ q = 12 ∨ q = 13 ∨ q = 14 ∨ q = 15 ∨ q = 16)) : ∃ cr : vw_C, vwCl[q]? = some cr ∧ (cr.1 = "NineDemands$Bids" ∨ Cond.castable cr.1 "NineDemands$Bids" ∈ lw_tbl) := by
  rcases h with rfl | rfl | rfl | rfl | rfl | rfl
  · exact ⟨_, rfl, Or.inr q1682⟩
  · exact ⟨_, rfl, Or.inr q1685⟩
  · exact ⟨_, rfl, Or.inr q1662⟩
  · exact ⟨_, rfl, Or.inr q1696⟩
  · exact ⟨_, rfl, Or.inr q1678⟩
  · exact ⟨_, rfl, Or.inr q1688⟩
theorem castD_NineDemands_Demand {q : Nat} (h : (q = 11 ∨ q = 12 ∨ q = 13 ∨ q = 14 ∨ q = 15 ∨ q = 16)) : ∃ cr : vw_C, vwCl[q]? = some cr ∧ (cr.1 = "NineDemands$Demand" ∨ Cond.castable cr.1 "NineDemands$Demand" ∈ lw_tbl) := by
  rcases h with rfl | rfl | rfl | rfl | rfl | rfl
  · exact ⟨_, rfl, Or.inl rfl⟩
  · exact ⟨_, rfl, Or.inr q2519⟩
  · exact ⟨_, rfl, Or.inr q2517⟩
  · exact ⟨_, rfl, Or.inr q2521⟩
  · exact ⟨_, rfl, Or.inr q2518⟩
  · exact ⟨_, rfl, Or.inr q2520⟩
theorem castD_NineDemands_Stands {q : Nat} (h : (q = 11 ∨ q = 12 ∨ q = 13 ∨ q = 14 ∨ q = 15 ∨ q = 16)) : ∃ cr : vw_C, vwCl[q]? = some cr ∧ (cr.1 = "NineDemands$Stands" ∨ Cond.castable cr.1 "NineDemands$Stands" ∈ lw_tbl) := by
  rcases h with rfl | rfl | rfl | rfl | rfl | rfl
  · exact ⟨_, rfl, Or.inr q1804⟩
  · exact ⟨_, rfl, Or.inr q1808⟩
  · exact ⟨_, rfl, Or.inr q1781⟩
  · exact ⟨_, rfl, Or.inr q1814⟩
  · exact ⟨_, rfl, Or.inr q1794⟩
  · exact ⟨_, rfl, Or.inr q1811⟩
theorem castD_NineDemands_Yields {q : Nat} (h : (q = 11 ∨ q = 12 ∨ q = 13 ∨ q = 14 ∨ q = 15 ∨ q = 16)) : ∃ cr : vw_C, vwCl[q]? = some cr ∧ (cr.1 = "NineDemands$Yields" ∨ Cond.castable cr.1 "NineDemands$Yields" ∈ lw_tbl) := by
  rcases h with rfl | rfl | rfl | rfl | rfl | rfl
  · exact ⟨_, rfl, Or.inr q1759⟩
  · exact ⟨_, rfl, Or.inr q1762⟩
  · exact ⟨_, rfl, Or.inr q1752⟩
  · exact ⟨_, rfl, Or.inr q1773⟩
  · exact ⟨_, rfl, Or.inr q1756⟩
  · exact ⟨_, rfl, Or.inr q1765⟩
theorem castD_java_lang_Object {q : Nat} (h : (q = 11 ∨ q = 12 ∨ q = 13 ∨ q = 14 ∨ q = 15 ∨ q = 16)) : ∃ cr : vw_C, vwCl[q]? = some cr ∧ (cr.1 = "java/lang/Object" ∨ Cond.castable cr.1 "java/lang/Object" ∈ lw_tbl) := by
  rcases h with rfl | rfl | rfl | rfl | rfl | rfl
  · exact ⟨_, rfl, Or.inr q2538⟩
  · exact ⟨_, rfl, Or.inr q2533⟩
  · exact ⟨_, rfl, Or.inr q2534⟩
  · exact ⟨_, rfl, Or.inr q2535⟩
  · exact ⟨_, rfl, Or.inr q2536⟩
  · exact ⟨_, rfl, Or.inr q2537⟩
theorem famclD {q : Nat} (h : (q = 11 ∨ q = 12 ∨ q = 13 ∨ q = 14 ∨ q = 15 ∨ q = 16)) : ∃ cr : vw_C, vwCl[q]? = some cr := by
  rcases h with rfl | rfl | rfl | rfl | rfl | rfl <;> exact ⟨_, rfl⟩
def ockT {β : Type} (sh : SH) (a : Nat) (f : Option β) : Option β := if (a < sh.1 ∨ (exA ≤ a ∧ a < exA + exN)) ∧ ((sh.2.1 a).1 = 18 ∨ (sh.2.1 a).1 = 20 ∨ (sh.2.1 a).1 = 21 ∨ (sh.2.1 a).1 = 22) then f else none
theorem ockT_some {β : Type} {sh : SH} {a : Nat} {f : Option β} {r : β} (h : ockT sh a f = some r) : ∃ c2, (c2 = 18 ∨ c2 = 20 ∨ c2 = 21 ∨ c2 = 22) ∧ ob sh a c2 ∧ f = some r := by
  unfold ockT at h
  split at h
  · rename_i g
    exact ⟨_, g.2, ⟨g.1, rfl⟩, h⟩
  · cases h
def ockwT {β : Type} (sh : SH) (a : Nat) (f : Option β) : Option β := if a < sh.1 ∧ ((sh.2.1 a).1 = 18 ∨ (sh.2.1 a).1 = 20 ∨ (sh.2.1 a).1 = 21 ∨ (sh.2.1 a).1 = 22) then f else none
theorem ockwT_some {β : Type} {sh : SH} {a : Nat} {f : Option β} {r : β} (h : ockwT sh a f = some r) : ∃ c2, (c2 = 18 ∨ c2 = 20 ∨ c2 = 21 ∨ c2 = 22) ∧ obw sh a c2 ∧ f = some r := by
  unfold ockwT at h
  split at h
  · rename_i g
    exact ⟨_, g.2, ⟨g.1, rfl⟩, h⟩
  · cases h
theorem castT_java_lang_Object {q : Nat} (h : (q = 18 ∨ q = 20 ∨ q = 21 ∨ q = 22)) : ∃ cr : vw_C, vwCl[q]? = some cr ∧ (cr.1 = "java/lang/Object" ∨ Cond.castable cr.1 "java/lang/Object" ∈ lw_tbl) := by
  rcases h with rfl | rfl | rfl | rfl
  · exact ⟨_, rfl, Or.inr q2542⟩
  · exact ⟨_, rfl, Or.inr q2544⟩
  · exact ⟨_, rfl, Or.inr q2545⟩
  · exact ⟨_, rfl, Or.inr q2546⟩
theorem famclT {q : Nat} (h : (q = 18 ∨ q = 20 ∨ q = 21 ∨ q = 22)) : ∃ cr : vw_C, vwCl[q]? = some cr := by
  rcases h with rfl | rfl | rfl | rfl <;> exact ⟨_, rfl⟩
def ockH {β : Type} (sh : SH) (a : Nat) (f : Option β) : Option β := if (a < sh.1 ∨ (exA ≤ a ∧ a < exA + exN)) ∧ ((sh.2.1 a).1 = 24 ∨ (sh.2.1 a).1 = 25 ∨ (sh.2.1 a).1 = 26) then f else none
theorem ockH_some {β : Type} {sh : SH} {a : Nat} {f : Option β} {r : β} (h : ockH sh a f = some r) : ∃ c2, (c2 = 24 ∨ c2 = 25 ∨ c2 = 26) ∧ ob sh a c2 ∧ f = some r := by
  unfold ockH at h
  split at h
  · rename_i g
    exact ⟨_, g.2, ⟨g.1, rfl⟩, h⟩
  · cases h
def ockwH {β : Type} (sh : SH) (a : Nat) (f : Option β) : Option β := if a < sh.1 ∧ ((sh.2.1 a).1 = 24 ∨ (sh.2.1 a).1 = 25 ∨ (sh.2.1 a).1 = 26) then f else none
theorem ockwH_some {β : Type} {sh : SH} {a : Nat} {f : Option β} {r : β} (h : ockwH sh a f = some r) : ∃ c2, (c2 = 24 ∨ c2 = 25 ∨ c2 = 26) ∧ obw sh a c2 ∧ f = some r := by
  unfold ockwH at h
  split at h
  · rename_i g
    exact ⟨_, g.2, ⟨g.1, rfl⟩, h⟩
  · cases h
theorem castH_NineDemands_Sheet {q : Nat} (h : (q = 24 ∨ q = 25 ∨ q = 26)) : ∃ cr : vw_C, vwCl[q]? = some cr ∧ (cr.1 = "NineDemands$Sheet" ∨ Cond.castable cr.1 "NineDemands$Sheet" ∈ lw_tbl) := by
  rcases h with rfl | rfl | rfl
  · exact ⟨_, rfl, Or.inr q2514⟩
  · exact ⟨_, rfl, Or.inr q2516⟩
  · exact ⟨_, rfl, Or.inr q2515⟩
theorem castH_java_lang_Object {q : Nat} (h : (q = 24 ∨ q = 25 ∨ q = 26)) : ∃ cr : vw_C, vwCl[q]? = some cr ∧ (cr.1 = "java/lang/Object" ∨ Cond.castable cr.1 "java/lang/Object" ∈ lw_tbl) := by
  rcases h with rfl | rfl | rfl
  · exact ⟨_, rfl, Or.inr q2548⟩
  · exact ⟨_, rfl, Or.inr q2549⟩
  · exact ⟨_, rfl, Or.inr q2550⟩
theorem famclH {q : Nat} (h : (q = 24 ∨ q = 25 ∨ q = 26)) : ∃ cr : vw_C, vwCl[q]? = some cr := by
  rcases h with rfl | rfl | rfl <;> exact ⟨_, rfl⟩
def ockE {β : Type} (sh : SH) (a : Nat) (f : Option β) : Option β := if (a < sh.1 ∨ (exA ≤ a ∧ a < exA + exN)) ∧ ((sh.2.1 a).1 = 1 ∨ (sh.2.1 a).1 = 19) then f else none
theorem ockE_some {β : Type} {sh : SH} {a : Nat} {f : Option β} {r : β} (h : ockE sh a f = some r) : ∃ c2, (c2 = 1 ∨ c2 = 19) ∧ ob sh a c2 ∧ f = some r := by
  unfold ockE at h
  split at h
  · rename_i g
    exact ⟨_, g.2, ⟨g.1, rfl⟩, h⟩
  · cases h
def ockwE {β : Type} (sh : SH) (a : Nat) (f : Option β) : Option β := if a < sh.1 ∧ ((sh.2.1 a).1 = 1 ∨ (sh.2.1 a).1 = 19) then f else none
theorem ockwE_some {β : Type} {sh : SH} {a : Nat} {f : Option β} {r : β} (h : ockwE sh a f = some r) : ∃ c2, (c2 = 1 ∨ c2 = 19) ∧ obw sh a c2 ∧ f = some r := by
  unfold ockwE at h
  split at h
  · rename_i g
    exact ⟨_, g.2, ⟨g.1, rfl⟩, h⟩
  · cases h
theorem fdE_0 {q : Nat} (h : (q = 1 ∨ q = 19)) : FD q 0 "java/lang/Throwable" "cause" "Ljava/lang/Throwable;" false true (.object "java/lang/Throwable") := by
  rcases h with rfl | rfl
  · exact fd_1_0
  · exact fd_19_0
theorem fdE_1 {q : Nat} (h : (q = 1 ∨ q = 19)) : FD q 1 "java/lang/Throwable" "stackTrace" "[Ljava/lang/StackTraceElement;" false true (.array (.object "java/lang/StackTraceElement")) := by
  rcases h with rfl | rfl
  · exact fd_1_1
  · exact fd_19_1
theorem fdE_2 {q : Nat} (h : (q = 1 ∨ q = 19)) : FD q 2 "java/lang/Throwable" "suppressedExceptions" "Ljava/util/List;" false true (.object "java/util/List") := by
  rcases h with rfl | rfl
  · exact fd_1_2
  · exact fd_19_2
theorem fdE_3 {q : Nat} (h : (q = 1 ∨ q = 19)) : FD q 3 "java/lang/Throwable" "detailMessage" "Ljava/lang/String;" false true (.object "java/lang/String") := by
  rcases h with rfl | rfl
  · exact fd_1_3
  · exact fd_19_3
theorem fdE_4 {q : Nat} (h : (q = 1 ∨ q = 19)) : FD q 4 "java/lang/Throwable" "backtrace" "Ljava/lang/Object;" false true (.object "java/lang/Object") := by
  rcases h with rfl | rfl
  · exact fd_1_4
  · exact fd_19_4
theorem fdE_5 {q : Nat} (h : (q = 1 ∨ q = 19)) : FD q 5 "java/lang/Throwable" "depth" "I" false false .int := by
  rcases h with rfl | rfl
  · exact fd_1_5
  · exact fd_19_5
theorem castE_java_lang_Object {q : Nat} (h : (q = 1 ∨ q = 19)) : ∃ cr : vw_C, vwCl[q]? = some cr ∧ (cr.1 = "java/lang/Object" ∨ Cond.castable cr.1 "java/lang/Object" ∈ lw_tbl) := by
  rcases h with rfl | rfl
  · exact ⟨_, rfl, Or.inr q2524⟩
  · exact ⟨_, rfl, Or.inr q2543⟩
theorem famclE {q : Nat} (h : (q = 1 ∨ q = 19)) : ∃ cr : vw_C, vwCl[q]? = some cr := by
  rcases h with rfl | rfl <;> exact ⟨_, rfl⟩
def ockS {β : Type} (sh : SH) (a : Nat) (f : Option β) : Option β := if (a < sh.1 ∨ (exA ≤ a ∧ a < exA + exN)) ∧ ((sh.2.1 a).1 = 28 ∨ (sh.2.1 a).1 = 29) then f else none
theorem ockS_some {β : Type} {sh : SH} {a : Nat} {f : Option β} {r : β} (h : ockS sh a f = some r) : ∃ c2, (c2 = 28 ∨ c2 = 29) ∧ ob sh a c2 ∧ f = some r := by
  unfold ockS at h
  split at h
  · rename_i g
    exact ⟨_, g.2, ⟨g.1, rfl⟩, h⟩
  · cases h
def ockwS {β : Type} (sh : SH) (a : Nat) (f : Option β) : Option β := if a < sh.1 ∧ ((sh.2.1 a).1 = 28 ∨ (sh.2.1 a).1 = 29) then f else none
theorem ockwS_some {β : Type} {sh : SH} {a : Nat} {f : Option β} {r : β} (h : ockwS sh a f = some r) : ∃ c2, (c2 = 28 ∨ c2 = 29) ∧ obw sh a c2 ∧ f = some r := by
  unfold ockwS at h
  split at h
  · rename_i g
    exact ⟨_, g.2, ⟨g.1, rfl⟩, h⟩
  · cases h
theorem fdS_0 {q : Nat} (h : (q = 28 ∨ q = 29)) : FD q 0 "java/lang/String" "value" "[B" true true (.array .byte) := by
  rcases h with rfl | rfl
  · exact fd_28_0
  · exact fd_29_0
theorem fdS_1 {q : Nat} (h : (q = 28 ∨ q = 29)) : FD q 1 "java/lang/String" "coder" "B" true false .byte := by
  rcases h with rfl | rfl
  · exact fd_28_1
  · exact fd_29_1
theorem castS_java_lang_Object {q : Nat} (h : (q = 28 ∨ q = 29)) : ∃ cr : vw_C, vwCl[q]? = some cr ∧ (cr.1 = "java/lang/Object" ∨ Cond.castable cr.1 "java/lang/Object" ∈ lw_tbl) := by
  rcases h with rfl | rfl
  · exact ⟨_, rfl, Or.inr q2541⟩
  · exact ⟨_, rfl, Or.inr q2541⟩
theorem famnmS {q : Nat} (h : (q = 28 ∨ q = 29)) : ∃ cr : vw_C, vwCl[q]? = some cr ∧ cr.1 = "java/lang/String" := by
  rcases h with rfl | rfl <;> exact ⟨_, rfl, rfl⟩
theorem famclS {q : Nat} (h : (q = 28 ∨ q = 29)) : ∃ cr : vw_C, vwCl[q]? = some cr := by
  rcases h with rfl | rfl <;> exact ⟨_, rfl⟩
theorem born_0 : clBorn 0 (RX0, TX0, 11) := ⟨tyX0, tyX0_ok, by decide +kernel⟩
theorem born_1 : clBorn 1 (RX1, TX1, 7) := ⟨tyX1, tyX1_ok, by decide +kernel⟩
theorem born_2 : clBorn 2 (RX2, TX2, 6) := ⟨tyX2, tyX2_ok, by decide +kernel⟩
theorem born_3 : clBorn 3 (RJ5, TJ5, 3) := ⟨tyJ5, tyJ5_ok, by decide +kernel⟩
theorem born_4 : clBorn 4 (RX3, TX3, 2) := ⟨tyX3, tyX3_ok, by decide +kernel⟩
theorem born_5 : clBorn 5 (RX4, TX4, 1) := ⟨tyX4, tyX4_ok, by decide +kernel⟩
theorem born_6 : clBorn 6 (RX5, TX5, 5) := ⟨tyX5, tyX5_ok, by decide +kernel⟩
theorem born_7 : clBorn 7 (RX6, TX6, 2) := ⟨tyX6, tyX6_ok, by decide +kernel⟩
theorem born_8 : clBorn 8 (RX7, TX7, 4) := ⟨tyX7, tyX7_ok, by decide +kernel⟩
theorem born_9 : clBorn 9 (RX8, TX8, 1) := ⟨tyX8, tyX8_ok, by decide +kernel⟩
theorem born_10 : clBorn 10 (RX9, TX9, 33) := ⟨tyX9, tyX9_ok, by decide +kernel⟩
theorem born_11 : clBorn 11 (RX10, TX10, 5) := ⟨tyX10, tyX10_ok, by decide +kernel⟩
theorem born_12 : clBorn 12 (RX11, TX11, 5) := ⟨tyX11, tyX11_ok, by decide +kernel⟩
theorem born_13 : clBorn 13 (RX12, TX12, 5) := ⟨tyX12, tyX12_ok, by decide +kernel⟩
theorem born_14 : clBorn 14 (RX13, TX13, 5) := ⟨tyX13, tyX13_ok, by decide +kernel⟩
theorem born_15 : clBorn 15 (RX14, TX14, 5) := ⟨tyX14, tyX14_ok, by decide +kernel⟩
theorem born_16 : clBorn 16 (RX15, TX15, 5) := ⟨tyX15, tyX15_ok, by decide +kernel⟩
theorem born_17 : clBorn 17 (RX16, TX16, 5) := ⟨tyX16, tyX16_ok, by decide +kernel⟩
theorem born_18 : clBorn 18 (RX18, TX18, 1) := ⟨tyX18, tyX18_ok, by decide +kernel⟩
theorem born_19 : clBorn 19 (RX19, TX19, 7) := ⟨tyX19, tyX19_ok, by decide +kernel⟩
theorem born_20 : clBorn 20 (RX20, TX20, 1) := ⟨tyX20, tyX20_ok, by decide +kernel⟩
theorem born_21 : clBorn 21 (RX21, TX21, 1) := ⟨tyX21, tyX21_ok, by decide +kernel⟩
theorem born_22 : clBorn 22 (RX22, TX22, 3) := ⟨tyX22, tyX22_ok, by decide +kernel⟩
theorem born_23 : clBorn 23 (RX23, TX23, 5) := ⟨tyX23, tyX23_ok, by decide +kernel⟩
theorem born_24 : clBorn 24 (RX25, TX25, 1) := ⟨tyX25, tyX25_ok, by decide +kernel⟩
theorem born_25 : clBorn 25 (RX26, TX26, 1) := ⟨tyX26, tyX26_ok, by decide +kernel⟩
theorem born_26 : clBorn 26 (RX27, TX27, 1) := ⟨tyX27, tyX27_ok, by decide +kernel⟩
theorem born_27 : clBorn 27 (RJ8, TJ8, 4) := ⟨tyJ8, tyJ8_ok, by decide +kernel⟩
theorem born_28 : clBorn 28 (RJ9, TJ9, 4) := ⟨tyJ9, tyJ9_ok, by decide +kernel⟩
