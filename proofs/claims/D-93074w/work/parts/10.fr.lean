/-! THE ABSTRACT HEAP AND THE JUDGEMENT J (own rows) -/
set_option maxRecDepth 100000
abbrev II : Type := Nat → Nat → Int32
abbrev RR : Type := Nat → Nat → Option Nat
/-- shape: how many cells; of each its kind (class below 100; int-like array 100..199; array of references from 200) and length; its references -/
abbrev SH : Type := Nat × (Nat → Nat × Nat) × RR
abbrev XX : Type := SH × II
/-- the world: classes, array classes, base, addresses of what lies below the base, the heap below the base, what the static references hold -/
abbrev WG : Type := va_G × (Nat → ClassId) × Nat × (Nat → Nat) × Heap × (Nat → Option Nat)
abbrev vwCl : List vw_C := [(RX0, TX0, 11), (RX1, TX1, 7), (RX2, TX2, 6), (RJ5, TJ5, 3), (RX3, TX3, 2), (RX4, TX4, 1), (RX5, TX5, 5), (RX6, TX6, 2), (RX7, TX7, 4), (RX8, TX8, 1), (RX9, TX9, 33), (RX10, TX10, 5), (RX11, TX11, 5), (RX12, TX12, 5), (RX13, TX13, 5), (RX14, TX14, 5), (RX15, TX15, 5), (RX16, TX16, 5), (RX18, TX18, 1), (RX19, TX19, 7), (RX20, TX20, 1), (RX21, TX21, 1), (RX22, TX22, 3), (RX23, TX23, 5), (RX25, TX25, 1), (RX26, TX26, 1), (RX27, TX27, 1), (RJ8, TJ8, 4), (RJ9, TJ9, 4), (RJ9, TJ9, 2)]
def rfs : List (List Bool) := [[true, true, true, false, true, true, true, true, true, true, true], [true, true, true, true, true, false, false], [true, true, true, false, true, false], [false, true, false], [true, false], [true], [true, true, true, false, false], [true, true], [true, true, false, false], [true], [true, true, false, true, true, true, true, true, false, false, false, false, false, true, false, false, false, false, true, true, true, true, true, true, true, false, true, false, false, true, true, true, true], [true, false, false, true, true], [true, false, false, true, true], [true, false, false, true, true], [true, false, false, true, true], [true, false, false, true, true], [true, false, false, true, true], [true, true, false, false, false], [false], [true, true, true, true, true, false, false], [true], [false], [false, true, true], [true, true, true, true, false], [true], [true], [true], [true, false, false, false], [true, false, false, false], [true, false]]
def isR (c k : Nat) : Bool := (rfs.getD c []).getD k false
def clOK (r : vw_C) : Prop := (∀ w ∈ u_ws r.1 r.2.1 r.2.2, w ∈ lw_all) ∧ (∀ a, a < r.2.2 → ∀ b, b < r.2.2 → a ≠ b → (r.2.1 a).2.1 ≠ (r.2.1 b).2.1) ∧ ∃ ty : Nat → FieldType, ∀ k, k < r.2.2 → parseFieldDescriptor (r.2.1 k).2.2.1 = some (ty k)
theorem u_ws_le {C : String} {T : u_T} {N M : Nat} (h : N ≤ M) {w : Cond} (hw : w ∈ u_ws C T N) : w ∈ u_ws C T M := by
  obtain ⟨k, hk, e⟩ := List.mem_map.mp hw
  exact List.mem_map.mpr ⟨k, List.mem_range.mpr (Nat.lt_of_lt_of_le (List.mem_range.mp hk) h), e⟩
theorem cl_ok : ∀ (k : Nat) (r : vw_C), vwCl[k]? = some r → clOK r := by
  intro k r h
  match k, h with
  | 0, h => cases h; exact ⟨in_X0, nmX0, tyX0, tyX0_ok⟩
  | 1, h => cases h; exact ⟨in_X1, nmX1, tyX1, tyX1_ok⟩
  | 2, h => cases h; exact ⟨in_X2, nmX2, tyX2, tyX2_ok⟩
  | 3, h => cases h; exact ⟨in_J5, nmJ5, tyJ5, tyJ5_ok⟩
  | 4, h => cases h; exact ⟨in_X3, nmX3, tyX3, tyX3_ok⟩
  | 5, h => cases h; exact ⟨in_X4, nmX4, tyX4, tyX4_ok⟩
  | 6, h => cases h; exact ⟨in_X5, nmX5, tyX5, tyX5_ok⟩
  | 7, h => cases h; exact ⟨in_X6, nmX6, tyX6, tyX6_ok⟩
  | 8, h => cases h; exact ⟨in_X7, nmX7, tyX7, tyX7_ok⟩
  | 9, h => cases h; exact ⟨in_X8, nmX8, tyX8, tyX8_ok⟩
  | 10, h => cases h; exact ⟨in_X9, nmX9, tyX9, tyX9_ok⟩
  | 11, h => cases h; exact ⟨in_X10, nmX10, tyX10, tyX10_ok⟩
  | 12, h => cases h; exact ⟨in_X11, nmX11, tyX11, tyX11_ok⟩
  | 13, h => cases h; exact ⟨in_X12, nmX12, tyX12, tyX12_ok⟩
  | 14, h => cases h; exact ⟨in_X13, nmX13, tyX13, tyX13_ok⟩
  | 15, h => cases h; exact ⟨in_X14, nmX14, tyX14, tyX14_ok⟩
  | 16, h => cases h; exact ⟨in_X15, nmX15, tyX15, tyX15_ok⟩
  | 17, h => cases h; exact ⟨in_X16, nmX16, tyX16, tyX16_ok⟩
  | 18, h => cases h; exact ⟨in_X18, nmX18, tyX18, tyX18_ok⟩
  | 19, h => cases h; exact ⟨in_X19, nmX19, tyX19, tyX19_ok⟩
  | 20, h => cases h; exact ⟨in_X20, nmX20, tyX20, tyX20_ok⟩
  | 21, h => cases h; exact ⟨in_X21, nmX21, tyX21, tyX21_ok⟩
  | 22, h => cases h; exact ⟨in_X22, nmX22, tyX22, tyX22_ok⟩
  | 23, h => cases h; exact ⟨in_X23, nmX23, tyX23, tyX23_ok⟩
  | 24, h => cases h; exact ⟨in_X25, nmX25, tyX25, tyX25_ok⟩
  | 25, h => cases h; exact ⟨in_X26, nmX26, tyX26, tyX26_ok⟩
  | 26, h => cases h; exact ⟨in_X27, nmX27, tyX27, tyX27_ok⟩
  | 27, h => cases h; exact ⟨in_J8, nmJ8, tyJ8, tyJ8_ok⟩
  | 28, h => cases h; exact ⟨in_J9, nmJ9, tyJ9, tyJ9_ok⟩
  | 29, h => cases h; exact ⟨fun w hw => in_J9 w (u_ws_le (by decide) hw), fun a ha b hb => nmJ9 a (Nat.lt_trans ha (by decide)) b (Nat.lt_trans hb (by decide)), tyJ9, fun k hk => tyJ9_ok k (Nat.lt_trans hk (by decide))⟩
  | k + 30, h => simp [vwCl] at h
def exA : Nat := 1000000000
abbrev gD (G : WG) : va_G := G.1
abbrev gA (G : WG) : Nat → ClassId := G.2.1
abbrev gb (G : WG) : Nat := G.2.2.1
def wad (G : WG) (a : Nat) : Nat := if a < exA then gb G + a else G.2.2.2.1 (a - exA)
theorem wad_lt {G : WG} {a : Nat} (h : a < exA) : wad G a = gb G + a := if_pos h
def fvx (G : WG) (X : XX) (a c k : Nat) : Value := if isR c k = true then va_rf ((X.1.2.2 a k).map (wad G)) else .int (X.2 a k)
def atx (G : WG) (X : XX) (H : Heap) (a : Nat) : Prop :=
  ((X.1.2.1 a).1 < 100 → ∃ r : vw_C, vwCl[(X.1.2.1 a).1]? = some r ∧ t_OB (wad G a) ((gD G).1 (X.1.2.1 a).1) r.2.2 ((gD G).2 (X.1.2.1 a).1) H (fvx G X a (X.1.2.1 a).1)) ∧
  (100 ≤ (X.1.2.1 a).1 → (X.1.2.1 a).1 < 200 → H[wad G a]? = some (arrV (gA G (X.1.2.1 a).1) (X.1.2.1 a).2 (fun j => .int (X.2 a j)))) ∧
  (200 ≤ (X.1.2.1 a).1 → H[wad G a]? = some (arrV (gA G (X.1.2.1 a).1) (X.1.2.1 a).2 (fun j => va_rf ((X.1.2.2 a j).map (wad G)))))
/-- a cell that stood before the start: its class, what is known of its fields -/
def t_OBw (o : Nat) (cC : ClassId) (N : Nat) (iS : Nat → Nat) (H : Heap) (V : Nat → Value) : Prop := ∃ cell : Cell, H[o]? = some cell ∧ cell.cls = cC ∧ (cell.vm ≠ .unknown ∧ ∀ q, cell.vm ≠ .statics q) ∧ ∀ k, k < N → cell.slots[iS k]? = some (V k)
def arrW (o : Nat) (cA : ClassId) (q : Nat) (f : Nat → Value) (H : Heap) : Prop := ∃ cell : Cell, H[o]? = some cell ∧ cell.cls = cA ∧ (cell.vm ≠ .unknown ∧ ∀ q, cell.vm ≠ .statics q) ∧ (q ≤ cell.slots.size ∧ cell.slots.size.toInt32 = nI q) ∧ ∀ j, j < q → cell.slots[j]? = some (f j)
def atxO (G : WG) (X : XX) (H : Heap) (a : Nat) : Prop :=
  ((X.1.2.1 a).1 < 100 → ∃ r : vw_C, vwCl[(X.1.2.1 a).1]? = some r ∧ t_OBw (wad G a) ((gD G).1 (X.1.2.1 a).1) r.2.2 ((gD G).2 (X.1.2.1 a).1) H (fvx G X a (X.1.2.1 a).1)) ∧
  (100 ≤ (X.1.2.1 a).1 → (X.1.2.1 a).1 < 200 → arrW (wad G a) (gA G (X.1.2.1 a).1) (X.1.2.1 a).2 (fun j => .int (X.2 a j)) H) ∧
  (200 ≤ (X.1.2.1 a).1 → arrW (wad G a) (gA G (X.1.2.1 a).1) (X.1.2.1 a).2 (fun j => va_rf ((X.1.2.2 a j).map (wad G))) H)
def atd (G : WG) (X : XX) (H : Heap) (a : Nat) : Prop := (a < exA → atx G X H a) ∧ (exA ≤ a → atxO G X H a)
/-- labels: made since the start, or of what stood before and is only read (exA ..) -/
def exN : Nat := 64
/-- the label under which static references are read -/
def exS : Nat := 1000000063
def dm (n a : Nat) : Prop := a < n ∨ (exA ≤ a ∧ a < exA + exN)
def RelX (G : WG) (X : XX) (H : Heap) : Prop := (H.size = gb G + X.1.1 ∧ X.1.1 ≤ exA) ∧ (∀ q : Nat, q < gb G → H[q]? = G.2.2.2.2.1[q]?) ∧ ((∀ j : Nat, j < exN → G.2.2.2.1 j < gb G) ∧ ∀ k, X.1.2.2 exS k = G.2.2.2.2.2 k) ∧ ∀ a : Nat, dm X.1.1 a → atd G X H a
theorem atx.kept {G : WG} {X X' : XX} {H H1 : Heap} {a : Nat} (h : atx G X H a) (e1 : X'.1.2.1 a = X.1.2.1 a) (e2 : X'.1.2.2 a = X.1.2.2 a) (e3 : X'.2 a = X.2 a) (hq : H1[wad G a]? = H[wad G a]?) : atx G X' H1 a := by
  have hf : fvx G X' a = fvx G X a := by funext c k; simp only [fvx, e2, e3]
  obtain ⟨h1, h2, h3⟩ := h
  refine ⟨fun q => ?_, fun q q2 => ?_, fun q => ?_⟩
  · rw [e1] at q ⊢
    obtain ⟨r, g1, g2⟩ := h1 q
    rw [hf]
    exact ⟨r, g1, g2.kept hq⟩
  · rw [e1] at q q2 ⊢
    rw [e3, hq]
    exact h2 q q2
  · rw [e1] at q ⊢
    rw [e2, hq]
    exact h3 q
theorem t_OBw.kept {o : Nat} {cC : ClassId} {N : Nat} {iS : Nat → Nat} {H H1 : Heap} {V : Nat → Value} (h : t_OBw o cC N iS H V) (h1 : H1[o]? = H[o]?) : t_OBw o cC N iS H1 V := by
  obtain ⟨cell, q, r⟩ := h
  exact ⟨cell, by rw [h1]; exact q, r⟩
theorem arrW.kept {o : Nat} {cA : ClassId} {q : Nat} {f : Nat → Value} {H H1 : Heap} (h : arrW o cA q f H) (h1 : H1[o]? = H[o]?) : arrW o cA q f H1 := by
  obtain ⟨cell, q, r⟩ := h
  exact ⟨cell, by rw [h1]; exact q, r⟩
theorem atxO.kept {G : WG} {X X' : XX} {H H1 : Heap} {a : Nat} (h : atxO G X H a) (e1 : X'.1.2.1 a = X.1.2.1 a) (e2 : X'.1.2.2 a = X.1.2.2 a) (e3 : X'.2 a = X.2 a) (hq : H1[wad G a]? = H[wad G a]?) : atxO G X' H1 a := by
  have hf : fvx G X' a = fvx G X a := by funext c k; simp only [fvx, e2, e3]
  obtain ⟨h1, h2, h3⟩ := h
  refine ⟨fun q => ?_, fun q q2 => ?_, fun q => ?_⟩
  · rw [e1] at q ⊢
    obtain ⟨r, g1, g2⟩ := h1 q
    rw [hf]
    exact ⟨r, g1, g2.kept hq⟩
  · rw [e1] at q q2 ⊢
    rw [e3]
    exact (h2 q q2).kept hq
  · rw [e1] at q ⊢
    rw [e2]
    exact (h3 q).kept hq
theorem atd.kept {G : WG} {X X' : XX} {H H1 : Heap} {a : Nat} (h : atd G X H a) (e1 : X'.1.2.1 a = X.1.2.1 a) (e2 : X'.1.2.2 a = X.1.2.2 a) (e3 : X'.2 a = X.2 a) (hq : H1[wad G a]? = H[wad G a]?) : atd G X' H1 a := ⟨fun q => (h.1 q).kept e1 e2 e3 hq, fun q => (h.2 q).kept e1 e2 e3 hq⟩
theorem t_OB.weak {o : Nat} {cC : ClassId} {N : Nat} {iS : Nat → Nat} {H : Heap} {V : Nat → Value} (h : t_OB o cC N iS H V) : t_OBw o cC N iS H V := by
  obtain ⟨cell, q1, q2, q3, q4⟩ := h
  exact ⟨cell, q1, q2, ⟨(by rw [q3]; intro h; cases h), fun q h => (by rw [q3] at h; cases h)⟩, q4⟩
theorem arrW.of {o : Nat} {cA : ClassId} {q : Nat} {f : Nat → Value} {H : Heap} (h : H[o]? = some (arrV cA q f)) : arrW o cA q f H :=
  ⟨_, h, rfl, ⟨fun h => (by cases h), fun q h => by cases h⟩, ⟨Nat.le_of_eq (arrV_size _ _ _).symm, by rw [arrV_size]; rfl⟩, fun j hj => arrV_read _ _ hj⟩
theorem RelX.ad {G : WG} {X : XX} {H : Heap} {a : Nat} (h : RelX G X H) (ha : a < X.1.1) : wad G a = gb G + a := wad_lt (Nat.lt_of_lt_of_le ha h.1.2)
/-- another label lies elsewhere -/
theorem RelX.apart {G : WG} {X : XX} {H : Heap} {a x : Nat} (h : RelX G X H) (ha : a < X.1.1) (hx : dm X.1.1 x) (hne : x ≠ a) : wad G x ≠ gb G + a := by
  rcases hx with hx | ⟨h1, h2⟩
  · rw [h.ad hx]
    omega
  · have e1 : wad G x = G.2.2.2.1 (x - exA) := if_neg (Nat.not_lt.mpr h1)
    have := h.2.2.1.1 (x - exA) (by omega)
    rw [e1]
    omega
theorem RelX.upd {G : WG} {X X' : XX} {H H1 : Heap} {a : Nat} (h : RelX G X H) (haX : a < X.1.1) (hn : X'.1.1 = X.1.1) (ho : ∀ x, x ≠ a → X'.1.2.1 x = X.1.2.1 x ∧ X'.1.2.2 x = X.1.2.2 x ∧ X'.2 x = X.2 x) (hz : H1.size = H.size) (oq : ∀ q : Nat, q ≠ wad G a → H1[q]? = H[q]?) (ha : atx G X' H1 a) : RelX G X' H1 := by
  have e0 := h.ad haX
  obtain ⟨⟨h1, h2⟩, h3, h5, h4⟩ := id h
  refine ⟨⟨by rw [hz, hn]; exact h1, by rw [hn]; exact h2⟩, fun q hq => ?_, ⟨h5.1, fun k => ?_⟩, fun x hx => ?_⟩
  · rw [oq q (by rw [e0]; omega)]
    exact h3 q hq
  · rw [(ho exS (by intro e; have e9 : exS = 1000000063 := rfl; have e8 : exA = 1000000000 := rfl; omega)).2.1]
    exact h5.2 k
  · rw [hn] at hx
    by_cases e : x = a
    · subst e
      exact ⟨fun _ => ha, fun q => absurd q (Nat.not_le.mpr (Nat.lt_of_lt_of_le haX h2))⟩
    · obtain ⟨e1, e2, e3⟩ := ho x e
      exact (h4 x hx).kept e1 e2 e3 (oq _ (by rw [e0]; exact h.apart haX hx e))
/-- readable; writable -/
def ob (sh : SH) (a c : Nat) : Prop := dm sh.1 a ∧ (sh.2.1 a).1 = c
def ar (sh : SH) (a t n : Nat) : Prop := dm sh.1 a ∧ sh.2.1 a = (t, n)
def obw (sh : SH) (a c : Nat) : Prop := a < sh.1 ∧ (sh.2.1 a).1 = c
def arw (sh : SH) (a t n : Nat) : Prop := a < sh.1 ∧ sh.2.1 a = (t, n)
theorem obw.r {sh : SH} {a c : Nat} (h : obw sh a c) : ob sh a c := ⟨Or.inl h.1, h.2⟩
theorem arw.r {sh : SH} {a t n : Nat} (h : arw sh a t n) : ar sh a t n := ⟨Or.inl h.1, h.2⟩
def rf (sh : SH) (a k t : Nat) : Prop := sh.2.2 a k = some t
def up2 (I : II) (a k : Nat) (v : Int32) : II := fun x => if x = a then upd (I a) k v else I x
theorem up2_s {I : II} {a k : Nat} {v : Int32} : up2 I a k v a = upd (I a) k v := if_pos rfl
theorem up2_n {I : II} {a k x : Nat} {v : Int32} (h : x ≠ a) : up2 I a k v x = I x := if_neg h
/-! the context -/
def nwW : Cond → Bool
  | .fieldLinkNest .. => true
  | .methodLinkNest .. => true
  | .castable .. => true
  | .declares .. => true
  | .privateMethod .. => true
  | _ => false
def tysX (G : WG) : List (ClassId × FieldType) := [(gA G 100, .int), (gA G 101, .byte), (gA G 102, .short), (gA G 200, .object "java/lang/Object"), (gA G 201, .object "NineDemands$Shelf")]
def strT : List (String × Nat × String) := [("NineDemands$Demand", 22, "abcspqr"), ("NineDemands$Moved", 26, "dw"), ("NineDemands$Moved", 36, "i"), ("NineDemands$Reader", 52, "|"), ("NineDemands$Reader", 66, "&"), ("NineDemands$Reader", 71, "<=>"), ("NineDemands$Reader", 76, "+-"), ("NineDemands$Reader", 81, "*/%"), ("NineDemands$Reader", 89, "!"), ("NineDemands$Reader", 99, "(")]
def sttT : List (String × String × String) := [("java/util/ArrayList", "DEFAULTCAPACITY_EMPTY_ELEMENTDATA", "[Ljava/lang/Object;"), ("java/lang/Throwable", "UNASSIGNED_STACK", "[Ljava/lang/StackTraceElement;"), ("java/lang/Throwable", "SUPPRESSED_SENTINEL", "Ljava/util/List;")]
/-- what else the run leans on: classes apart, interface calls, arrays of references, strings, statics -/
def KE (G : WG) (U : State) : Prop :=
  va_Nc "NineDemands$Finding" "NineDemands$Fault" U ∧
  (∀ (C : String) (x y : MethodName), Cond.declares x ∈ lw_tbl → Cond.interfaceMethod x.cls x.cls x.name x.desc ∈ lw_tbl → Cond.publicMethod y ∈ lw_tbl → Cond.unhidden C x.name x.desc ∈ lw_tbl → Cond.castable C x.cls ∈ lw_tbl → (x.cls ≠ "java/lang/invoke/MethodHandle" ∧ x.cls ≠ "java/lang/invoke/VarHandle") → va_Fw C x y U) ∧
  (∀ C : String, Cond.arrayOver (.object C) ∈ lw_tbl → va_AO C U) ∧
  (∀ (j : Nat) (z : String × Nat × String), strT[j]? = some z → vk_R z.1 z.2.1 z.2.2 (wad G (exA + j)) U) ∧
  va_Z "java/lang/String" "COMPACT_STRINGS" "Z" (.int 1) (fun q => gb G ≤ q) U G.2.2.2.2.1 ∧
  (∀ (j : Nat) (z : String × String × String), sttT[j]? = some z → va_Z z.1 z.2.1 z.2.2 (va_rf ((G.2.2.2.2.2 j).map (wad G))) (fun q => gb G ≤ q) U G.2.2.2.2.1)
theorem KE.moved {G : WG} {s U : State} (h : KE G s) (hW : s.WarmedH U.vm) : KE G U := by
  obtain ⟨h1, h2, h3, h4, h5, h6⟩ := h
  exact ⟨h1.moved hW.alike, fun C x y a1 a2 a3 a4 a5 a6 => va_Fw.moved a6 hW.alike (h2 C x y a1 a2 a3 a4 a5 a6), fun C a1 => va_AO.moved hW.alike (h3 C a1), fun j z hz => (h4 j z hz).warm hW, h5.moved hW.alike, fun j z hz => (h6 j z hz).moved hW.alike⟩
theorem KE.same {G : WG} {s U : State} (h : KE G s) (hv : s.vm = U.vm) : KE G U := by
  have ha : s.vm.Alike U.vm := by rw [hv]; exact Vm.Alike.refl _
  obtain ⟨h1, h2, h3, h4, h5, h6⟩ := h
  exact ⟨h1.moved ha, fun C x y a1 a2 a3 a4 a5 a6 => va_Fw.moved a6 ha (h2 C x y a1 a2 a3 a4 a5 a6), fun C a1 => va_AO.moved ha (h3 C a1), fun j z hz => (h4 j z hz).same hv.symm, h5.moved ha, fun j z hz => (h6 j z hz).moved ha⟩
def Kx (G : WG) (U : State) : Prop := va_K (gD G) vwCl (tysX G) U ∧ (∀ w ∈ lw_tbl, nwW w = true → va_Nw w U) ∧ KE G U
theorem nwW_onTables {w : Cond} (h : nwW w = true) : w.onTables = true := by
  cases w <;> first | rfl | (simp [nwW] at h)
theorem Kx.moved {G : WG} {s U : State} (h : Kx G s) (hW : s.WarmedH U.vm) : Kx G U := by
  obtain ⟨h1, h2, h3⟩ := h
  refine ⟨va_K.moved hW.alike h1, fun w hw hg => ?_, h3.moved hW⟩
  have hz := h2 w hw hg
  cases w with
  | fieldLinkNest a i b n d q => exact va_Nw.warmF hW hz
  | methodLinkNest a i x q => exact va_Nw.warmM hW hz
  | castable C T => exact va_Nw.warmC hW hz
  | declares x => exact va_Nw.warmD hW hz
  | privateMethod x => exact Cond.privateMethod_warm hW hz
  | _ => simp [nwW] at hg
theorem Kx.same {G : WG} {s U : State} (h : Kx G s) (hv : s.vm = U.vm) : Kx G U := by
  obtain ⟨h1, h2, h3⟩ := h
  exact ⟨va_K.moved (by rw [hv]; exact Vm.Alike.refl _) h1, fun w hw hg => va_tabs (nwW_onTables hg) hv (h2 w hw hg), h3.same hv⟩
def Cx (G : WG) (p : Program) (R : Room) (s : State) (m : MethodId) (args : Array Value) (meth : Method) (c : Code) (cc : ByteArray) (own : String) (nL : Nat) (ret : Option FieldType) (hh : List (Nat × Nat × Nat × Nat)) (mn : String) : Prop :=
  p.tables.exec = Jvm.exec ∧ c.code = cc ∧ c.maxLocals = nL ∧ s.vm.findClass own = some m.cls ∧ (∀ w ∈ lw_all, w.before args s = true) ∧ meth.locks = false ∧ Kx G s ∧ meth.sig.returnType = ret ∧ c.exceptionTable.toList.map (fun h => (h.startPc, h.endPc, h.handlerPc, h.catchType)) = hh ∧ meth.name = mn
def lget : List (Option Value) → Nat → Option Value
  | [], _ => none
  | a :: _, 0 => a
  | _ :: l, n + 1 => lget l n
def lset : List (Option Value) → Nat → Option Value → List (Option Value)
  | [], _, _ => []
  | _ :: l, 0, v => v :: l
  | a :: l, n + 1, v => a :: lset l n v
theorem lget_set : ∀ (l : List (Option Value)) (i k : Nat) (v : Option Value), lget (lset l i v) k = if k = i then (if i < l.length then v else none) else lget l k
  | [], i, k, v => by simp [lset, lget]
  | a :: l, 0, 0, v => by simp [lset, lget]
  | a :: l, 0, k + 1, v => by simp [lset, lget]
  | a :: l, i + 1, 0, v => by simp [lset, lget]
  | a :: l, i + 1, k + 1, v => by simp [lset, lget, lget_set l i k v]
def lvH (ls : Array Slot) (nL : Nat) (lv : List (Option Value)) : Prop := ls.size = nL ∧ lv_wf ls ∧ ∀ (k : Nat) (v : Value), lget lv k = some v → ls[k]? = some (.val v)
/-- no two-word value lies just below i -/
def cat1 (lv : List (Option Value)) (i : Nat) : Bool := match i with
  | 0 => true
  | j + 1 => match lget lv j with
    | some v => v.category == 1
    | none => true
def lvp (lv : List (Option Value)) : List (Nat × Value) := (List.range lv.length).filterMap fun k => (lget lv k).map fun v => (k, v)
theorem lget_lt : ∀ (l : List (Option Value)) (k : Nat) (v : Value), lget l k = some v → k < l.length
  | [], _, _, h => by simp [lget] at h
  | _ :: _, 0, _, _ => by simp
  | _ :: l, k + 1, v, h => by
    have := lget_lt l k v h
    simp; omega
theorem lvp_mem {lv : List (Option Value)} {k : Nat} {v : Value} : (k, v) ∈ lvp lv ↔ lget lv k = some v := by
  unfold lvp
  rw [List.mem_filterMap]
  constructor
  · rintro ⟨j, -, h⟩
    cases hg : lget lv j with
    | none => rw [hg] at h; cases h
    | some w => rw [hg] at h; cases h; exact hg
  · intro h
    exact ⟨k, List.mem_range.mpr (lget_lt _ _ _ h), by rw [h]; rfl⟩
theorem lvH.has {ls : Array Slot} {nL : Nat} {lv : List (Option Value)} (h : lvH ls nL lv) : lv_has ls nL (lvp lv) := ⟨h.1, h.2.1, fun q hq => h.2.2 q.1 q.2 (lvp_mem.mp hq)⟩
theorem lvH.st1 {ls : Array Slot} {nL i : Nat} {lv : List (Option Value)} {v : Value} (hc : cat1 lv i = true) (h : lv_has ls nL ((i, v) :: (lvp lv).filter (fun q => !(q.1 == i) && !(q.1 + 1 == i && q.2.category == 2)))) : lvH ls nL (lset lv i (some v)) := by
  refine ⟨h.1, h.2.1, fun k w hk => ?_⟩
  rw [lget_set] at hk
  by_cases e : k = i
  · rw [if_pos e] at hk
    subst e
    split at hk
    · cases hk
      exact h.2.2 (k, v) List.mem_cons_self
    · cases hk
  · rw [if_neg e] at hk
    refine h.2.2 (k, w) (List.mem_cons_of_mem _ (List.mem_filter.mpr ⟨lvp_mem.mpr hk, ?_⟩))
    have h1 : (k == i) = false := by simp [e]
    simp only [h1, Bool.not_false, Bool.true_and, Bool.not_eq_true', Bool.and_eq_false_iff]
    by_cases e2 : k + 1 = i
    · right
      subst e2
      have hc' : w.category = 1 := by
        have : cat1 lv (k + 1) = true := hc
        simp only [cat1, hk, beq_iff_eq] at this
        exact this
      simp [hc']
    · left
      simp [e2]
theorem lvH.st2 {ls : Array Slot} {nL i : Nat} {lv : List (Option Value)} {v : Value} (hc : cat1 lv i = true) (h : lv_has ls nL ((i, v) :: (lvp lv).filter (fun q => !(q.1 == i) && (!(q.1 == i + 1) && !(q.1 + 1 == i && q.2.category == 2))))) : lvH ls nL (lset (lset lv (i + 1) none) i (some v)) := by
  refine ⟨h.1, h.2.1, fun k w hk => ?_⟩
  rw [lget_set, lget_set] at hk
  by_cases e : k = i
  · rw [if_pos e] at hk
    subst e
    split at hk
    · cases hk
      exact h.2.2 (k, v) List.mem_cons_self
    · cases hk
  · rw [if_neg e] at hk
    by_cases e3 : k = i + 1
    · rw [if_pos e3] at hk
      split at hk <;> cases hk
    · rw [if_neg e3] at hk
      refine h.2.2 (k, w) (List.mem_cons_of_mem _ (List.mem_filter.mpr ⟨lvp_mem.mpr hk, ?_⟩))
      have h1 : (k == i) = false := by simp [e]
      have h2 : (k == i + 1) = false := by simp [e3]
      simp only [h1, h2, Bool.not_false, Bool.true_and, Bool.not_eq_true', Bool.and_eq_false_iff]
      by_cases e2 : k + 1 = i
      · right
        subst e2
        have hc' : w.category = 1 := by
          have : cat1 lv (k + 1) = true := hc
          simp only [cat1, hk, beq_iff_eq] at this
          exact this
        simp [hc']
      · left
        simp [e2]
def QX (G : WG) (below : List Frame) (s : State) (oc : Outcome) (Xf : XX) (mc ms : Nat) : State → Prop := fun t =>
  ∃ o, t.status = .running ∧ Ended t below o ∧ (o = oc ∧ RelX G Xf t.heap) ∧ ∃ L, (s.WarmedH t.vm ∧ s.sameButNew ({ t with vm := s.vm } : State) L mc ms) ∧ ∀ q ∈ L, gb G ≤ q.base
def J (G : WG) (p : Program) (l : Launch) (e : Env) (R : Room) (s : State) (m : MethodId) (args : Array Value) (below : List Frame) (meth : Method) (c : Code) (nL : Nat) (oc : Outcome) (Xf : XX) (mc ms : Nat) (X : XX) (k n pc : Nat) (lv : List (Option Value)) (st : List Value) : Prop :=
  ∀ (H : Heap) (locs : List Loc) (ls : Array Slot), RelX G X H → (∀ q ∈ locs, gb G ≤ q.base) → lvH ls nL lv → W p l e R s m args below meth c H locs k n (QX G below s oc Xf mc ms) (F0 m pc ls st)
def PcX (G : WG) (As : List Value) (X : XX) : Array Value → State → Prop := fun a s => a = As.toArray ∧ RelX G X s.heap ∧ Kx G s
def QcX (G : WG) (oc : Outcome) (Xf : XX) : Array Value → State → Outcome → State → Prop := fun _ _ o t => o = oc ∧ RelX G Xf t.heap
/-- a method's contract: from X, with As, it ends with oc at Xf -/
def CT (G : WG) (l : Launch) (y : MethodName) (ws : List Cond) (rm : Room) (As : List Value) (X : XX) (oc : Outcome) (Xf : XX) : Prop :=
  MetFree l y (headSpec ws rm) (PcX G As X) (fun _ _ _ _ _ => True) (fun a st o t => QcX G oc Xf a st o t ∧ ∃ L, (st.WarmedH t.vm ∧ st.sameButNew ({ t with vm := st.vm } : State) L rm.cells rm.slots) ∧ ∀ q ∈ L, gb G ≤ q.base)
theorem CT.met {G : WG} {l : Launch} {y : MethodName} {ws : List Cond} {rm : Room} {As : List Value} {X Xf : XX} {v : Option Value} (h : CT G l y ws rm As X (.returned v) Xf) : Met l y ws rm (PcX G As X) (QcX G (.returned v) Xf) rm.cells rm.slots (fun q => gb G ≤ q) := by
  intro p e h1 h2 h3 s m args below h4 h5 h6 h7
  obtain ⟨n, o, g1, g2, g3, g4, L, g5, g6⟩ := h p e h1 h2 h3 s m args below h4 h5 h6 h7
  exact ⟨n, o, g1, g2, g3, g4, L, ⟨⟨v, g4.1⟩, g5.1, g5.2⟩, g6⟩
theorem PcX.blind (G : WG) (As : List Value) (X : XX) : FrameBlind (PcX G As X) := fun a U g mk h => ⟨h.1, h.2.1, h.2.2.same rfl⟩
def lvA : List Value → Nat → List (Option Value)
  | [], n => List.replicate n none
  | v :: vs, n => if v.category = 2 then some v :: none :: lvA vs (n - 2) else some v :: lvA vs (n - 1)

