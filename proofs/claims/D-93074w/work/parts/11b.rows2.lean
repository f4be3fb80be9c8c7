/-! ROWS OF J, of cells found by their labels (references that are read, made, written) -/
set_option maxRecDepth 100000
/-- a fresh cell of kind t, length q -/
def newS (sh : SH) (t q : Nat) : SH := (sh.1 + 1, fun x => if x = sh.1 then (t, q) else sh.2.1 x, fun x => if x = sh.1 then fun _ => none else sh.2.2 x)
def newI (sh : SH) (I : II) : II := fun x => if x = sh.1 then fun _ => 0 else I x
def shR (sh : SH) (a k : Nat) (o : Option Nat) : SH := (sh.1, sh.2.1, fun x => if x = a then va_up (sh.2.2 a) k o else sh.2.2 x)
/-- an answer, or what was thrown -/
def oci (G : WG) : Int32 ⊕ Nat → Outcome
  | .inl v => .returned (some (.int v))
  | .inr t => .threw (wad G t)
def ocu (G : WG) : Unit ⊕ Nat → Outcome
  | .inl _ => .returned none
  | .inr t => .threw (wad G t)
def ocr (G : WG) : Nat ⊕ Nat → Outcome
  | .inl v => .returned (some (.ref (wad G v)))
  | .inr t => .threw (wad G t)
def ock {β : Type} (sh : SH) (a c : Nat) (f : Option β) : Option β := if (a < sh.1 ∨ (exA ≤ a ∧ a < exA + exN)) ∧ (sh.2.1 a).1 = c then f else none
theorem ock_some {β : Type} {sh : SH} {a c : Nat} {f : Option β} {r : β} (h : ock sh a c f = some r) : ob sh a c ∧ f = some r := by
  unfold ock at h
  split at h
  · exact ⟨by assumption, h⟩
  · cases h
def oar {β : Type} (sh : SH) (a t : Nat) (f : Nat → Option β) : Option β := if (a < sh.1 ∨ (exA ≤ a ∧ a < exA + exN)) ∧ (sh.2.1 a).1 = t then f (sh.2.1 a).2 else none
theorem oar_some {β : Type} {sh : SH} {a t : Nat} {f : Nat → Option β} {r : β} (h : oar sh a t f = some r) : ∃ q, ar sh a t q ∧ f q = some r := by
  unfold oar at h
  split at h
  · rename_i g
    exact ⟨_, ⟨g.1, by rw [← g.2]⟩, h⟩
  · cases h
def ockw {β : Type} (sh : SH) (a c : Nat) (f : Option β) : Option β := if a < sh.1 ∧ (sh.2.1 a).1 = c then f else none
theorem ockw_some {β : Type} {sh : SH} {a c : Nat} {f : Option β} {r : β} (h : ockw sh a c f = some r) : obw sh a c ∧ f = some r := by
  unfold ockw at h
  split at h
  · exact ⟨by assumption, h⟩
  · cases h
def oarw {β : Type} (sh : SH) (a t : Nat) (f : Nat → Option β) : Option β := if a < sh.1 ∧ (sh.2.1 a).1 = t then f (sh.2.1 a).2 else none
theorem oarw_some {β : Type} {sh : SH} {a t : Nat} {f : Nat → Option β} {r : β} (h : oarw sh a t f = some r) : ∃ q, arw sh a t q ∧ f q = some r := by
  unfold oarw at h
  split at h
  · rename_i g
    exact ⟨_, ⟨g.1, by rw [← g.2]⟩, h⟩
  · cases h
def orf {β : Type} (o : Option Nat) (f : Nat → Option β) : Option β := o.bind f
theorem orf_some {β : Type} {o : Option Nat} {f : Nat → Option β} {r : β} (h : orf o f = some r) : ∃ t, o = some t ∧ f t = some r := ob_some h
def oex {τ β : Type} (r : τ ⊕ Nat) (f : τ → Option β) (g : Nat → Option β) : Option β := match r with
  | .inl v => f v
  | .inr t => g t
def bd3 {α γ : Type} (x : Option (α × SH × II)) (f : α → SH → II → Option γ) : Option γ := x.bind fun q => f q.1 q.2.1 q.2.2
theorem bd3_some {α γ : Type} {x : Option (α × SH × II)} {f : α → SH → II → Option γ} {r : γ} (h : bd3 x f = some r) : ∃ a sh I, x = some (a, sh, I) ∧ f a sh I = some r := by
  obtain ⟨⟨a, sh, I⟩, h1, h2⟩ := ob_some h
  exact ⟨a, sh, I, h1, h2⟩
/-- room for one more label -/
def onw {β : Type} (sh : SH) (f : Option β) : Option β := if sh.1 < exA then f else none
theorem onw_some {β : Type} {sh : SH} {f : Option β} {r : β} (h : onw sh f = some r) : sh.1 < exA ∧ f = some r := by
  unfold onw at h
  split at h
  · exact ⟨by assumption, h⟩
  · cases h
def isRT : FieldType → Bool
  | .object _ => true
  | .array _ => true
  | _ => false
theorem isRT.nar {ty : FieldType} (h : isRT ty = true) (o : Option Nat) : narrow ty (va_rf o) = va_rf o := by
  cases ty <;> cases o <;> first | rfl | cases h
theorem isRT.fit {ty : FieldType} (h : isRT ty = true) (o : Option Nat) : fits ty (va_rf o) = true := by
  cases ty <;> cases o <;> first | rfl | cases h
section JROWS2
variable {G : WG} {p : Program} {l : Launch} {e : Env} {R : Room} {s : State} {m : MethodId} {args : Array Value} {below : List Frame} {meth : Method} {c : Code} {cc : ByteArray} {own : String} {nL : Nat} {ret : Option FieldType} {hh : List (Nat × Nat × Nat × Nat)} {mn : String} {oc : Outcome} {Xf : XX} {mc ms : Nat} {X X' : XX} {sh : SH} {I : II} {k n : Nat} {pc : Nat} {lv : List (Option Value)} {st : List Value}
/-- how an instruction names a field -/
def FLk (args : Array Value) (s : State) (own : String) (idx : Nat) (decl nm ds : String) : Prop := (∃ ref, (Cond.fieldLink own idx ref nm ds).before args s = true ∧ ∀ x, s.fieldFound? decl nm ds = some x → s.fieldFound? ref nm ds = some x) ∨ ∃ host, (Cond.fieldLinkNest own idx decl nm ds host).before args s = true
theorem fl1 {idx : Nat} {decl nm ds : String} (C : Cx G p R s m args meth c cc own nL ret hh mn) (h : Cond.fieldLink own idx decl nm ds ∈ lw_all) : FLk args s own idx decl nm ds := Or.inl ⟨_, C.2.2.2.2.1 _ h, fun _ h => h⟩
theorem fl2 {idx : Nat} {ref decl nm ds : String} (C : Cx G p R s m args meth c cc own nL ret hh mn) (h : Cond.fieldLink own idx ref nm ds ∈ lw_all) (h2 : Cond.sameField ref decl nm ds ∈ lw_all) : FLk args s own idx decl nm ds := Or.inl ⟨_, C.2.2.2.2.1 _ h, fun x hx => u_same (C.2.2.2.2.1 _ h2) x hx⟩
theorem Cx.nw {w : Cond} (C : Cx G p R s m args meth c cc own nL ret hh mn) (h : w ∈ lw_tbl) (hg : nwW w = true) : va_Nw w s := C.2.2.2.2.2.2.1.2.1 w h hg
theorem fl3 {idx : Nat} {decl nm ds host : String} (C : Cx G p R s m args meth c cc own nL ret hh mn) (h : Cond.fieldLinkNest own idx decl nm ds host ∈ lw_tbl) : FLk args s own idx decl nm ds := Or.inr ⟨_, va_Nw.use rfl (C.nw h rfl)⟩
theorem x_get {a c2 kf idx : Nat} {decl nm ds : String} {fin isr : Bool} {ty : FieldType} (C : Cx G p R s m args meth c cc own nL ret hh mn) (hF : FD c2 kf decl nm ds fin isr ty) (hl : FLk args s own idx decl nm ds) (ho : ob X.1 a c2) (hd : decode cc pc = .ok (.getfield idx, 3)) (kk : J G p l e R s m args below meth c nL oc Xf mc ms X k n (pc + 3) lv (fvx G X a c2 kf :: st)) : J G p l e R s m args below meth c nL oc Xf mc ms X k n pc lv (.ref (wad G a) :: st) := by
  intro H locs ls hR hL hv
  obtain ⟨r, hc, hk, hT, -, -⟩ := hF
  obtain ⟨cell, q1, q2, q3, q4⟩ := hR.obj ho hc
  obtain ⟨hin, -, -⟩ := cl_ok _ _ hc
  obtain ⟨hS, hfc, kC, hkC, hkind⟩ := C.2.2.2.2.2.2.1.1.1 c2 _ hc
  obtain ⟨cf, kf', fi, f, hi, hsl⟩ := hS kf hk
  rw [hT] at hi
  have hst := (u_facts hfc hkC (u_lays C.2.2.2.2.1 hin hk) (by rw [hT]; exact hi)).1
  rcases hl with ⟨ref, hl, hsame⟩ | ⟨host, hl⟩
  · exact W.getf C.1 C.2.1 C.2.2.2.1 hl (hsame _ hi) hst q1 q3.1 (v := fvx G X a c2 kf) (by rw [hsl]; exact q4 kf hk) rfl rfl hd (kk H locs ls hR hL hv)
  · exact va_Wgetf C.1 C.2.1 C.2.2.2.1 hl hi hst q1 q3.1 (v := fvx G X a c2 kf) (by rw [hsl]; exact q4 kf hk) rfl rfl hd (kk H locs ls hR hL hv)
theorem x_getI {a c2 kf idx : Nat} {decl nm ds : String} {fin : Bool} {ty : FieldType} (C : Cx G p R s m args meth c cc own nL ret hh mn) (hF : FD c2 kf decl nm ds fin false ty) (hl : FLk args s own idx decl nm ds) (ho : ob sh a c2) (hd : decode cc pc = .ok (.getfield idx, 3)) (kk : J G p l e R s m args below meth c nL oc Xf mc ms (sh, I) k n (pc + 3) lv (.int (I a kf) :: st)) : J G p l e R s m args below meth c nL oc Xf mc ms (sh, I) k n pc lv (.ref (wad G a) :: st) := by
  refine x_get (X := (sh, I)) C hF hl ho hd ?_
  obtain ⟨r, hc, hk, hT, h5, -⟩ := hF
  rw [show fvx G (sh, I) a c2 kf = .int (I a kf) by simp [fvx, h5]]
  exact kk
theorem x_getN {a c2 kf idx : Nat} {decl nm ds : String} {fin : Bool} {ty : FieldType} (C : Cx G p R s m args meth c cc own nL ret hh mn) (hF : FD c2 kf decl nm ds fin true ty) (hl : FLk args s own idx decl nm ds) (ho : ob sh a c2) (hd : decode cc pc = .ok (.getfield idx, 3)) (kk : J G p l e R s m args below meth c nL oc Xf mc ms (sh, I) k n (pc + 3) lv (va_rf ((sh.2.2 a kf).map (wad G)) :: st)) : J G p l e R s m args below meth c nL oc Xf mc ms (sh, I) k n pc lv (.ref (wad G a) :: st) := by
  refine x_get (X := (sh, I)) C hF hl ho hd ?_
  obtain ⟨r, hc, hk, hT, h5, -⟩ := hF
  rw [show fvx G (sh, I) a c2 kf = va_rf ((sh.2.2 a kf).map (wad G)) by simp [fvx, h5]]
  exact kk
theorem x_getR {a c2 kf idx t : Nat} {decl nm ds : String} {fin : Bool} {ty : FieldType} (C : Cx G p R s m args meth c cc own nL ret hh mn) (hF : FD c2 kf decl nm ds fin true ty) (hl : FLk args s own idx decl nm ds) (ho : ob sh a c2) (ht : rf sh a kf t) (hd : decode cc pc = .ok (.getfield idx, 3)) (kk : J G p l e R s m args below meth c nL oc Xf mc ms (sh, I) k n (pc + 3) lv (.ref (wad G t) :: st)) : J G p l e R s m args below meth c nL oc Xf mc ms (sh, I) k n pc lv (.ref (wad G a) :: st) := by
  refine x_getN C hF hl ho hd ?_
  rw [show sh.2.2 a kf = some t from ht]
  exact kk
theorem x_put {a c2 kf idx : Nat} {v : Value} {decl nm ds : String} {isr : Bool} {ty : FieldType} (C : Cx G p R s m args meth c cc own nL ret hh mn) (hF : FD c2 kf decl nm ds false isr ty) (hl : FLk args s own idx decl nm ds) (ho : obw X.1 a c2) (hn9 : narrow ty v = v) (hf9 : fits ty v = true) (hd : decode cc pc = .ok (.putfield idx, 3)) (hn : X'.1.1 = X.1.1) (hk2 : X'.1.2.1 = X.1.2.1) (hoth : ∀ x, x ≠ a → X'.1.2.2 x = X.1.2.2 x ∧ X'.2 x = X.2 x) (hv9 : ∀ j, updV (fvx G X a c2) kf v j = fvx G X' a c2 j) (kk : J G p l e R s m args below meth c nL oc Xf mc ms X' k n (pc + 3) lv st) : J G p l e R s m args below meth c nL oc Xf mc ms X k n pc lv (v :: .ref (wad G a) :: st) := by
  intro H locs ls hR hL hv
  obtain ⟨r, hc, hk, hT, h5, h6⟩ := hF
  obtain ⟨cell, q1, q2, q3, q4⟩ := hR.objS ho hc
  obtain ⟨hin, hnm, ty0, hty⟩ := cl_ok _ _ hc
  have hap := va_apart (own := own) C.2.2.2.2.1 hin ty0 hty hnm C.2.2.2.2.2.2.1.1 hc
  obtain ⟨hS, hfc, kC, hkC, hkind⟩ := C.2.2.2.2.2.2.1.1.1 c2 _ hc
  obtain ⟨cf, kf', fi, f, hi, hsl⟩ := hS kf hk
  have hlay := C.2.2.2.2.1 _ (hin _ (u_in_lay hk))
  have hst := (u_facts hfc hkC (u_lays C.2.2.2.2.1 hin hk) hi).1
  unfold u_lay at hlay
  rw [hT] at hlay hi
  rw [if_neg (show ¬ (false = true) from Bool.false_ne_true)] at hlay
  have h7 := u_store hfc hkC hkind hlay hi h6 hn9 hf9
  have h100 := cl_lt hc
  have fin : ∀ H' : Heap, H'[wad G a]? = some (cell.setSlot f.slot v) → H'.size = H.size → (∀ q, q ≠ wad G a → H'[q]? = H[q]?) → W p l e R s m args below meth c H' (locs ++ [⟨wad G a, f.slot⟩]) k n (QX G below s oc Xf mc ms) { (F0 m pc ls (v :: .ref (wad G a) :: st)) with pc := pc + 3, stack := st } := by
    intro H' e1 e2 e3
    rw [hsl] at e1 ⊢
    refine kk H' _ ls (RelX.upd hR ho.1 hn (fun x hx => ⟨by rw [hk2], hoth x hx⟩) e2 e3 ⟨fun h => ?_, fun h => ?_, fun h => ?_⟩) (t_lc hL (by rw [hR.ad ho.1]; exact Nat.le_add_right _ _)) hv
    · rw [hk2, ho.2]
      exact ⟨r, hc, t_OB.to (V := updV (fvx G X a c2) kf v) ⟨_, e1, q2, q3, t_set q4 hap hk _⟩ (fun j _ => hv9 j)⟩
    · exact absurd h (by rw [hk2, ho.2]; omega)
    · exact absurd h (by rw [hk2, ho.2]; omega)
  rcases hl with ⟨ref, hl, hsame⟩ | ⟨host, hl⟩
  · exact W.putK C.1 C.2.1 (f := f) ⟨C.2.2.2.1, hl, ⟨_, _, _, hsame _ hi⟩, hst⟩ (by rw [q2]; exact h7) q1 q3 (by rw [hsl]; exact k2_hasslot (q4 kf hk)) rfl rfl hd fin
  · exact va_WputK C.1 C.2.1 (f := f) C.2.2.2.1 hl hi hst (by rw [q2]; exact h7) q1 q3 (by rw [hsl]; exact k2_hasslot (q4 kf hk)) rfl rfl hd fin
/-- a final field, in its class's own constructor -/
theorem x_putF {a c2 kf idx : Nat} {v : Value} {nm ds : String} {isr : Bool} {ty : FieldType} (C : Cx G p R s m args meth c cc own nL ret hh "<init>") (hF : FD c2 kf own nm ds true isr ty) (hl : Cond.fieldLink own idx own nm ds ∈ lw_all) (ho : obw X.1 a c2) (hn9 : narrow ty v = v) (hf9 : fits ty v = true) (hd : decode cc pc = .ok (.putfield idx, 3)) (hn : X'.1.1 = X.1.1) (hk2 : X'.1.2.1 = X.1.2.1) (hoth : ∀ x, x ≠ a → X'.1.2.2 x = X.1.2.2 x ∧ X'.2 x = X.2 x) (hv9 : ∀ j, updV (fvx G X a c2) kf v j = fvx G X' a c2 j) (kk : J G p l e R s m args below meth c nL oc Xf mc ms X' k n (pc + 3) lv st) : J G p l e R s m args below meth c nL oc Xf mc ms X k n pc lv (v :: .ref (wad G a) :: st) := by
  intro H locs ls hR hL hv
  obtain ⟨r, hc, hk, hT, h5, h6⟩ := hF
  obtain ⟨cell, q1, q2, q3, q4⟩ := hR.objS ho hc
  obtain ⟨hin, hnm, ty0, hty⟩ := cl_ok _ _ hc
  have hap := va_apart (own := own) C.2.2.2.2.1 hin ty0 hty hnm C.2.2.2.2.2.2.1.1 hc
  obtain ⟨hS, hfc, kC, hkC, hkind⟩ := C.2.2.2.2.2.2.1.1.1 c2 _ hc
  obtain ⟨cf, kf', fi, f, hi, hsl⟩ := hS kf hk
  have hlay := C.2.2.2.2.1 _ (hin _ (u_in_lay hk))
  have hst := (u_facts hfc hkC (u_lays C.2.2.2.2.1 hin hk) hi).1
  unfold u_lay at hlay
  rw [hT] at hlay hi
  rw [if_pos (show (true = true) from rfl)] at hlay
  have h7 := u_fits hfc hkC hkind (Or.inr hlay) hi h6 hn9 hf9
  have h100 := cl_lt hc
  have hcf : m.cls = cf := by
    obtain ⟨_, _, c', _, _, _, -, -, hf', -, -, -, hown2, -⟩ := Cond.laysFinal_spec hlay
    have e1 : c' = cf := by have := hi.symm.trans hf'; simp at this; exact this.1.symm
    rw [← e1]; exact Option.some.inj (C.2.2.2.1.symm.trans hown2)
  refine W.putFinK C.1 C.2.1 C.2.2.2.1 (C.2.2.2.2.1 _ hl) hi hst hcf C.2.2.2.2.2.2.2.2.2 (by rw [q2]; exact h7) q1 q3 (by rw [hsl]; exact k2_hasslot (q4 kf hk)) rfl rfl hd fun H' e1 e2 e3 => ?_
  rw [hsl] at e1 ⊢
  refine kk H' _ ls (RelX.upd hR ho.1 hn (fun x hx => ⟨by rw [hk2], hoth x hx⟩) e2 e3 ⟨fun h => ?_, fun h => ?_, fun h => ?_⟩) (t_lc hL (by rw [hR.ad ho.1]; exact Nat.le_add_right _ _)) hv
  · rw [hk2, ho.2]
    exact ⟨r, hc, t_OB.to (V := updV (fvx G X a c2) kf v) ⟨_, e1, q2, q3, t_set q4 hap hk _⟩ (fun j _ => hv9 j)⟩
  · exact absurd h (by rw [hk2, ho.2]; omega)
  · exact absurd h (by rw [hk2, ho.2]; omega)
theorem fvx_shR {a c2 kf j : Nat} {o : Option Nat} (h : isR c2 kf = true) : updV (fvx G (sh, I) a c2) kf (va_rf (o.map (wad G))) j = fvx G (shR sh a kf o, I) a c2 j := by
  unfold updV fvx
  by_cases e : j = kf
  · subst e
    simp [h, shR, va_up]
  · simp [e, shR, va_up]
theorem x_putI {a c2 kf idx : Nat} {v : Int32} {decl nm ds : String} {ty : FieldType} (C : Cx G p R s m args meth c cc own nL ret hh mn) (hF : FD c2 kf decl nm ds false false ty) (hl : FLk args s own idx decl nm ds) (ho : obw sh a c2) (hn9 : narrow ty (.int v) = .int v) (hf9 : fits ty (.int v) = true) (hd : decode cc pc = .ok (.putfield idx, 3)) (kk : J G p l e R s m args below meth c nL oc Xf mc ms (sh, up2 I a kf v) k n (pc + 3) lv st) : J G p l e R s m args below meth c nL oc Xf mc ms (sh, I) k n pc lv (.int v :: .ref (wad G a) :: st) :=
  x_put (X := (sh, I)) (X' := (sh, up2 I a kf v)) C hF hl ho hn9 hf9 hd rfl rfl (fun x hx => ⟨rfl, up2_n hx⟩) (fun j => fvx_up2 hF.choose_spec.2.2.2.1) kk
theorem x_putIF {a c2 kf idx : Nat} {v : Int32} {nm ds : String} {ty : FieldType} (C : Cx G p R s m args meth c cc own nL ret hh "<init>") (hF : FD c2 kf own nm ds true false ty) (hl : Cond.fieldLink own idx own nm ds ∈ lw_all) (ho : obw sh a c2) (hn9 : narrow ty (.int v) = .int v) (hf9 : fits ty (.int v) = true) (hd : decode cc pc = .ok (.putfield idx, 3)) (kk : J G p l e R s m args below meth c nL oc Xf mc ms (sh, up2 I a kf v) k n (pc + 3) lv st) : J G p l e R s m args below meth c nL oc Xf mc ms (sh, I) k n pc lv (.int v :: .ref (wad G a) :: st) :=
  x_putF (X := (sh, I)) (X' := (sh, up2 I a kf v)) C hF hl ho hn9 hf9 hd rfl rfl (fun x hx => ⟨rfl, up2_n hx⟩) (fun j => fvx_up2 hF.choose_spec.2.2.2.1) kk
theorem x_putN {a c2 kf idx : Nat} {o : Option Nat} {decl nm ds : String} {ty : FieldType} (C : Cx G p R s m args meth c cc own nL ret hh mn) (hF : FD c2 kf decl nm ds false true ty) (hl : FLk args s own idx decl nm ds) (ho : obw sh a c2) (ht : isRT ty = true) (hd : decode cc pc = .ok (.putfield idx, 3)) (kk : J G p l e R s m args below meth c nL oc Xf mc ms (shR sh a kf o, I) k n (pc + 3) lv st) : J G p l e R s m args below meth c nL oc Xf mc ms (sh, I) k n pc lv (va_rf (o.map (wad G)) :: .ref (wad G a) :: st) :=
  x_put (X := (sh, I)) (X' := (shR sh a kf o, I)) C hF hl ho (isRT.nar ht _) (isRT.fit ht _) hd rfl rfl (fun x hx => ⟨if_neg hx, rfl⟩) (fun j => fvx_shR hF.choose_spec.2.2.2.1) kk
theorem x_putNF {a c2 kf idx : Nat} {o : Option Nat} {nm ds : String} {ty : FieldType} (C : Cx G p R s m args meth c cc own nL ret hh "<init>") (hF : FD c2 kf own nm ds true true ty) (hl : Cond.fieldLink own idx own nm ds ∈ lw_all) (ho : obw sh a c2) (ht : isRT ty = true) (hd : decode cc pc = .ok (.putfield idx, 3)) (kk : J G p l e R s m args below meth c nL oc Xf mc ms (shR sh a kf o, I) k n (pc + 3) lv st) : J G p l e R s m args below meth c nL oc Xf mc ms (sh, I) k n pc lv (va_rf (o.map (wad G)) :: .ref (wad G a) :: st) :=
  x_putF (X := (sh, I)) (X' := (shR sh a kf o, I)) C hF hl ho (isRT.nar ht _) (isRT.fit ht _) hd rfl rfl (fun x hx => ⟨if_neg hx, rfl⟩) (fun j => fvx_shR hF.choose_spec.2.2.2.1) kk
/-! arrays, new cells -/
/-- int-like arrays: their place among the array classes -/
def tyI (t : Nat) : FieldType := if t = 100 then .int else if t = 101 then .byte else .short
theorem x_alen {a t q : Nat} (C : Cx G p R s m args meth c cc own nL ret hh mn) (ha : ar sh a t q) (ht : t = 100 ∨ t = 101 ∨ t = 102 ∨ t = 200 ∨ t = 201) (hd : decode cc pc = .ok (.arraylength, 1)) (kk : J G p l e R s m args below meth c nL oc Xf mc ms (sh, I) k n (pc + 1) lv (.int (nI q) :: st)) : J G p l e R s m args below meth c nL oc Xf mc ms (sh, I) k n pc lv (.ref (wad G a) :: st) := by
  intro H locs ls hR hL hv
  rcases ht with rfl | rfl | rfl | rfl | rfl
  · obtain ⟨cell, q1, q2, q3, q4, q5⟩ := hR.arrI ha (by decide) (by decide)
    exact W.alen (n := nI q) C.1 C.2.1 q1 ((C.2.2.2.2.2.2.1.1.2 0 _ rfl).1.weak q2 q3.2) q4.2 rfl rfl hd (kk H locs ls hR hL hv)
  · obtain ⟨cell, q1, q2, q3, q4, q5⟩ := hR.arrI ha (by decide) (by decide)
    exact W.alen (n := nI q) C.1 C.2.1 q1 ((C.2.2.2.2.2.2.1.1.2 1 _ rfl).1.weak q2 q3.2) q4.2 rfl rfl hd (kk H locs ls hR hL hv)
  · obtain ⟨cell, q1, q2, q3, q4, q5⟩ := hR.arrI ha (by decide) (by decide)
    exact W.alen (n := nI q) C.1 C.2.1 q1 ((C.2.2.2.2.2.2.1.1.2 2 _ rfl).1.weak q2 q3.2) q4.2 rfl rfl hd (kk H locs ls hR hL hv)
  · obtain ⟨cell, q1, q2, q3, q4, q5⟩ := hR.arrR ha (by decide)
    exact W.alen (n := nI q) C.1 C.2.1 q1 ((C.2.2.2.2.2.2.1.1.2 3 _ rfl).1.weak q2 q3.2) q4.2 rfl rfl hd (kk H locs ls hR hL hv)
  · obtain ⟨cell, q1, q2, q3, q4, q5⟩ := hR.arrR ha (by decide)
    exact W.alen (n := nI q) C.1 C.2.1 q1 ((C.2.2.2.2.2.2.1.1.2 4 _ rfl).1.weak q2 q3.2) q4.2 rfl rfl hd (kk H locs ls hR hL hv)
theorem x_bald {a q j : Nat} {i : Int32} (C : Cx G p R s m args meth c cc own nL ret hh mn) (ha : ar sh a 101 q) (hin : vp_in i q) (hj : j = i.toNatClampNeg) (hd : decode cc pc = .ok (.baload, 1)) (kk : J G p l e R s m args below meth c nL oc Xf mc ms (sh, I) k n (pc + 1) lv (.int (I a j) :: st)) : J G p l e R s m args below meth c nL oc Xf mc ms (sh, I) k n pc lv (.int i :: .ref (wad G a) :: st) := by
  intro H locs ls hR hL hv
  subst hj
  have hlt : i.toNatClampNeg < q := Nat.not_le.mp fun h => hin (Or.inr h)
  obtain ⟨cell, q1, q2, q3, q4, q5⟩ := hR.arrI ha (by decide) (by decide)
  exact W.bald (v := .int (I a i.toNatClampNeg)) C.1 C.2.1 q1 ((C.2.2.2.2.2.2.1.1.2 1 _ rfl).1.weak q2 q3.2) q3.1 (fun h => h.elim (fun g => hin (Or.inl g)) (fun g => by have := q4.1; omega)) (q5 _ hlt) rfl rfl hd (kk H locs ls hR hL hv)
theorem x_sald {a q j : Nat} {i : Int32} (C : Cx G p R s m args meth c cc own nL ret hh mn) (ha : ar sh a 102 q) (hin : vp_in i q) (hj : j = i.toNatClampNeg) (hd : decode cc pc = .ok (.saload, 1)) (kk : J G p l e R s m args below meth c nL oc Xf mc ms (sh, I) k n (pc + 1) lv (.int (I a j) :: st)) : J G p l e R s m args below meth c nL oc Xf mc ms (sh, I) k n pc lv (.int i :: .ref (wad G a) :: st) := by
  intro H locs ls hR hL hv
  subst hj
  have hlt : i.toNatClampNeg < q := Nat.not_le.mp fun h => hin (Or.inr h)
  obtain ⟨cell, q1, q2, q3, q4, q5⟩ := hR.arrI ha (by decide) (by decide)
  exact W.sald (v := .int (I a i.toNatClampNeg)) C.1 C.2.1 q1 ((C.2.2.2.2.2.2.1.1.2 2 _ rfl).1.weak q2 q3.2) q3.1 (fun h => h.elim (fun g => hin (Or.inl g)) (fun g => by have := q4.1; omega)) (q5 _ hlt) rfl rfl hd (kk H locs ls hR hL hv)
theorem x_stored {H H1 : Heap} {a t q j : Nat} {v : Int32} (hR : RelX G (sh, I) H) (ha : arw sh a t q) (h1 : 100 ≤ t) (h2 : t < 200) (e1 : H1[wad G a]? = some ((arrV (gA G t) q (fun j => .int (I a j))).setSlot j (.int v))) (e2 : H1.size = H.size) (e3 : ∀ x, x ≠ wad G a → H1[x]? = H[x]?) : RelX G (sh, up2 I a j v) H1 := by
  have h3 := ha.2
  refine hR.putI ha.1 e2 e3 ⟨fun h => ?_, fun h h' => ?_, fun h => ?_⟩
  · exact absurd (show (sh.2.1 a).1 < 100 from h) (by rw [h3]; show ¬ (t < 100); omega)
  · show H1[wad G a]? = some (arrV (gA G (sh.2.1 a).1) (sh.2.1 a).2 (fun x => .int (up2 I a j v a x)))
    rw [h3, e1, arrV_store]
    congr 2
    funext x
    unfold updV
    by_cases e : x = j
    · subst e
      simp [up2_s, upd]
    · simp [e, up2_s, upd]
  · exact absurd (show 200 ≤ (sh.2.1 a).1 from h) (by rw [h3]; show ¬ (200 ≤ t); omega)
theorem x_bast {a q j : Nat} {i v : Int32} (C : Cx G p R s m args meth c cc own nL ret hh mn) (ha : arw sh a 101 q) (hin : vp_in i q) (hj : j = i.toNatClampNeg) (hb : narrow .byte (.int v) = .int v) (hd : decode cc pc = .ok (.bastore, 1)) (kk : J G p l e R s m args below meth c nL oc Xf mc ms (sh, up2 I a j v) k n (pc + 1) lv st) : J G p l e R s m args below meth c nL oc Xf mc ms (sh, I) k n pc lv (.int v :: .int i :: .ref (wad G a) :: st) := by
  intro H locs ls hR hL hv
  subst hj
  refine W.bast C.1 C.2.1 (hR.arrIS ha (by decide) (by decide)) ((C.2.2.2.2.2.2.1.1.2 1 _ rfl).1 q _) (fun q => by cases q) (by rw [arrV_size]; exact hin) rfl rfl hd fun H' e1 e2 e3 => ?_
  rw [hb] at e1
  exact kk H' _ ls (x_stored hR ha (by decide) (by decide) e1 e2 e3) (t_lc hL (by rw [hR.ad ha.1]; exact Nat.le_add_right _ _)) hv
theorem x_sast {a q j : Nat} {i v : Int32} (C : Cx G p R s m args meth c cc own nL ret hh mn) (ha : arw sh a 102 q) (hin : vp_in i q) (hj : j = i.toNatClampNeg) (hb : narrow .short (.int v) = .int v) (hd : decode cc pc = .ok (.sastore, 1)) (kk : J G p l e R s m args below meth c nL oc Xf mc ms (sh, up2 I a j v) k n (pc + 1) lv st) : J G p l e R s m args below meth c nL oc Xf mc ms (sh, I) k n pc lv (.int v :: .int i :: .ref (wad G a) :: st) := by
  intro H locs ls hR hL hv
  subst hj
  refine W.sast C.1 C.2.1 (hR.arrIS ha (by decide) (by decide)) ((C.2.2.2.2.2.2.1.1.2 2 _ rfl).1 q _) (fun q => by cases q) (by rw [arrV_size]; exact hin) rfl rfl hd fun H' e1 e2 e3 => ?_
  rw [hb] at e1
  exact kk H' _ ls (x_stored hR ha (by decide) (by decide) e1 e2 e3) (t_lc hL (by rw [hR.ad ha.1]; exact Nat.le_add_right _ _)) hv
theorem x_aald {a t q j : Nat} {i : Int32} (C : Cx G p R s m args meth c cc own nL ret hh mn) (ha : ar sh a t q) (ht : t = 200 ∨ t = 201) (hin : vp_in i q) (hj : j = i.toNatClampNeg) (hd : decode cc pc = .ok (.aaload, 1)) (kk : J G p l e R s m args below meth c nL oc Xf mc ms (sh, I) k n (pc + 1) lv (va_rf ((sh.2.2 a j).map (wad G)) :: st)) : J G p l e R s m args below meth c nL oc Xf mc ms (sh, I) k n pc lv (.int i :: .ref (wad G a) :: st) := by
  intro H locs ls hR hL hv
  subst hj
  have hlt : i.toNatClampNeg < q := Nat.not_le.mp fun h => hin (Or.inr h)
  rcases ht with rfl | rfl
  · obtain ⟨cell, q1, q2, q3, q4, q5⟩ := hR.arrR ha (by decide)
    exact W.aald (v := va_rf ((sh.2.2 a i.toNatClampNeg).map (wad G))) C.1 C.2.1 q1 ((C.2.2.2.2.2.2.1.1.2 3 _ rfl).1.weak q2 q3.2) rfl q3.1 (fun h => h.elim (fun g => hin (Or.inl g)) (fun g => by have := q4.1; omega)) (q5 _ hlt) rfl rfl hd (kk H locs ls hR hL hv)
  · obtain ⟨cell, q1, q2, q3, q4, q5⟩ := hR.arrR ha (by decide)
    exact W.aald (v := va_rf ((sh.2.2 a i.toNatClampNeg).map (wad G))) C.1 C.2.1 q1 ((C.2.2.2.2.2.2.1.1.2 4 _ rfl).1.weak q2 q3.2) rfl q3.1 (fun h => h.elim (fun g => hin (Or.inl g)) (fun g => by have := q4.1; omega)) (q5 _ hlt) rfl rfl hd (kk H locs ls hR hL hv)
/-- what an array of kind t holds -/
def elT (t : Nat) : String := if t = 200 then "java/lang/Object" else "NineDemands$Shelf"
theorem x_aast {a t q j v c2 : Nat} {i : Int32} {cr : vw_C} (C : Cx G p R s m args meth c cc own nL ret hh mn) (ha : arw sh a t q) (ht : t = 200 ∨ t = 201) (hin : vp_in i q) (hj : j = i.toNatClampNeg) (hv2 : ob sh v c2) (hc : vwCl[c2]? = some cr) (hcast : va_Nw (.castable cr.1 (elT t)) s ∨ cr.1 = elT t) (hd : decode cc pc = .ok (.aastore, 1)) (kk : J G p l e R s m args below meth c nL oc Xf mc ms (shR sh a j (some v), I) k n (pc + 1) lv st) : J G p l e R s m args below meth c nL oc Xf mc ms (sh, I) k n pc lv (.ref (wad G v) :: .int i :: .ref (wad G a) :: st) := by
  intro H locs ls hR hL hv
  subst hj
  have h200 : 200 ≤ t := by rcases ht with rfl | rfl <;> decide
  have hlt : i.toNatClampNeg < q := Nat.not_le.mp fun h => hin (Or.inr h)
  have h0 : ¬ i < 0 := fun h => hin (Or.inl h)
  obtain ⟨cellV, g1, g2, g3, -⟩ := hR.obj hv2 hc
  obtain ⟨-, hfc, kC, hkC, hkind⟩ := C.2.2.2.2.2.2.1.1.1 c2 _ hc
  have hty : ∃ k1 : Nat, (tysX G)[k1]? = some (gA G t, FieldType.object (elT t)) := by
    rcases ht with rfl | rfl
    · exact ⟨3, rfl⟩
    · exact ⟨4, rfl⟩
  obtain ⟨k1, hk1⟩ := hty
  obtain ⟨kA, comp, f1, f2, f3, -⟩ := (C.2.2.2.2.2.2.1.1.2 k1 _ hk1).2
  obtain ⟨kE, hkE, -⟩ := Vm.findClass_spec f3
  have hasg : s.vm.assignable cellV.cls comp = true := by
    rw [g2]
    rcases hcast with h | h
    · obtain ⟨c3, t3, w1, w2, w3⟩ := Cond.castable_spec (args := #[]) h
      cases hfc.symm.trans w1
      cases f3.symm.trans w2
      exact w3
    · rw [h] at hfc
      cases hfc.symm.trans f3
      exact va_assign (C := elT t) ⟨f3, kC, hkC, hkind⟩
  refine W.aast C.1 C.2.1 (hR.arrRS ha h200) (fun q h => by cases h) (fun h => by cases h) f1 f2 rfl hkE ⟨h0, by rw [arrV_size]; exact hlt⟩ (v := wad G v) (cv := cellV) g1 (fun q h => g3.2 q h) (by rw [g2]; exact hkC) hasg rfl rfl hd fun H' e1 e2 e3 => ?_
  have h3 := ha.2
  refine kk H' _ ls (RelX.upd (X := (sh, I)) hR ha.1 rfl (fun x hx => ⟨rfl, if_neg hx, rfl⟩) e2 e3 ⟨fun h => ?_, fun h h' => ?_, fun h => ?_⟩) (t_lc hL (by rw [hR.ad ha.1]; exact Nat.le_add_right _ _)) hv
  · exact absurd (show (sh.2.1 a).1 < 100 from h) (by rw [h3]; show ¬ (t < 100); omega)
  · exact absurd (show (sh.2.1 a).1 < 200 from h') (by rw [h3]; show ¬ (t < 200); omega)
  · show H'[wad G a]? = some (arrV (gA G (sh.2.1 a).1) (sh.2.1 a).2 (fun x => va_rf (((shR sh a i.toNatClampNeg (some v)).2.2 a x).map (wad G))))
    rw [h3, e1, arrV_store]
    congr 2
    funext x
    unfold updV
    by_cases e : x = i.toNatClampNeg
    · subst e
      simp [shR, va_up, va_rf]
    · simp [e, shR, va_up]
theorem RelX.grow {H H1 : Heap} {t q : Nat} (hR : RelX G (sh, I) H) (hlt : sh.1 < exA) (e2 : H1.size = H.size + 1) (e3 : ∀ x, x < H.size → H1[x]? = H[x]?) (ha : atx G (newS sh t q, newI sh I) H1 sh.1) : RelX G (newS sh t q, newI sh I) H1 := by
  have hR' := hR
  obtain ⟨⟨h1, h2⟩, h3, h5, h4⟩ := hR
  have h1 : H.size = gb G + sh.1 := h1
  refine ⟨⟨?_, ?_⟩, fun x hx => ?_, ⟨h5.1, fun k => ?_⟩, fun x hx => ?_⟩
  · show H1.size = gb G + (sh.1 + 1)
    omega
  · show sh.1 + 1 ≤ exA
    omega
  · rw [e3 x (by omega)]
    exact h3 x hx
  · have e9 : exS ≠ sh.1 := by intro e; have e9 : exS = 1000000063 := rfl; have e8 : exA = 1000000000 := rfl; omega
    have e8 : (newS sh t q).2.2 exS = sh.2.2 exS := if_neg e9
    show (newS sh t q).2.2 exS k = _
    rw [e8]
    exact h5.2 k
  · by_cases e : x = sh.1
    · rw [e]
      exact ⟨fun _ => ha, fun q => absurd q (Nat.not_le.mpr hlt)⟩
    · have hx' : dm sh.1 x := by
        rcases hx with hx | hx
        · have : x < sh.1 + 1 := hx
          exact Or.inl (by omega)
        · exact Or.inr hx
      refine (h4 x hx').kept (if_neg e) (if_neg e) (if_neg e) (e3 _ ?_)
      rcases hx' with hx' | ⟨g1, g2⟩
      · rw [hR'.ad hx']
        omega
      · rw [show wad G x = G.2.2.2.1 (x - exA) from if_neg (Nat.not_lt.mpr g1)]
        have := h5.1 (x - exA) (by omega)
        omega
/-- every class's fields at birth -/
def clBorn (q : Nat) (r : vw_C) : Prop := ∃ ty : Nat → FieldType, (∀ k, k < r.2.2 → parseFieldDescriptor (r.2.1 k).2.2.1 = some (ty k)) ∧ ∀ k, k < r.2.2 → defaultValue (ty k) = if isR q k = true then .null else .int 0
theorem x_new {c2 idx : Nat} {r : vw_C} (C : Cx G p R s m args meth c cc own nL ret hh mn) (hc : vwCl[c2]? = some r) (hB : clBorn c2 r) (h1 : Cond.classLink own idx r.1 ∈ lw_all) (h2 : Cond.instantiable r.1 r.2.2 ∈ lw_all) (h3 : Cond.initialized r.1 ∈ lw_all) (hlt : sh.1 < exA) (hk : k + 1 ≤ R.cells) (hn : n + r.2.2 ≤ R.slots) (hd : decode cc pc = .ok (.new idx, 3)) (kk : J G p l e R s m args below meth c nL oc Xf mc ms (newS sh c2 0, newI sh I) (k + 1) (n + r.2.2) (pc + 3) lv (.ref (wad G sh.1) :: st)) : J G p l e R s m args below meth c nL oc Xf mc ms (sh, I) k n pc lv st := by
  intro H locs ls hR hL hv
  have hKn := C.2.2.2.2.2.2.1.1.1 c2 _ hc
  obtain ⟨hin, -, -⟩ := cl_ok _ _ hc
  obtain ⟨ty, hty, hdf⟩ := hB
  have e0 : H.size = gb G + sh.1 := hR.1.1
  refine W.newcK C.1 C.2.1 C.2.2.2.1 (C.2.2.2.2.1 _ h1) (C.2.2.2.2.1 _ h2) (C.2.2.2.2.1 _ h3) rfl hd hk hn hKn.2.1 e0 fun H1 kC hkC e1 e2 e3 => ?_
  have ew := wad_lt (G := G) hlt
  rw [ew] at kk
  refine kk H1 locs ls (hR.grow hlt (by rw [e2, e0]) (fun x hx => e3 x (by omega)) ⟨fun h => ?_, fun h => ?_, fun h => ?_⟩) hL hv
  · show ∃ r' : vw_C, vwCl[((newS sh c2 0).2.1 sh.1).1]? = some r' ∧ _
    have e9 : (newS sh c2 0).2.1 sh.1 = (c2, 0) := if_pos rfl
    refine ⟨r, by rw [e9]; exact hc, ?_⟩
    show t_OB (wad G sh.1) ((gD G).1 ((newS sh c2 0).2.1 sh.1).1) r.2.2 ((gD G).2 ((newS sh c2 0).2.1 sh.1).1) H1 (fvx G (newS sh c2 0, newI sh I) sh.1 ((newS sh c2 0).2.1 sh.1).1)
    rw [e9, ew]
    refine (u_born ty C.2.2.2.2.1 hin hKn hkC e1 hty).to (fun j hj => ?_)
    rw [hdf j hj]
    unfold fvx
    have e8 : (newS sh c2 0).2.2 sh.1 = fun _ => none := if_pos rfl
    have e7 : newI sh I sh.1 = fun _ => 0 := if_pos rfl
    show _ = if isR c2 j = true then va_rf (((newS sh c2 0).2.2 sh.1 j).map (wad G)) else .int (newI sh I sh.1 j)
    rw [e8, e7]
    rfl
  · have e9 : (newS sh c2 0).2.1 sh.1 = (c2, 0) := if_pos rfl
    exact absurd (show 100 ≤ ((newS sh c2 0).2.1 sh.1).1 from h) (by rw [e9]; exact Nat.not_le.mpr (cl_lt hc))
  · have e9 : (newS sh c2 0).2.1 sh.1 = (c2, 0) := if_pos rfl
    exact absurd (show 200 ≤ ((newS sh c2 0).2.1 sh.1).1 from h) (by rw [e9]; exact Nat.not_le.mpr (Nat.lt_trans (cl_lt hc) (by decide)))
theorem x_newaI {at' : ArrayType} {t q : Nat} {i : Int32} (C : Cx G p R s m args meth c cc own nL ret hh mn) (ht : (t = 100 ∧ newarray.typeOf at' = .int) ∨ (t = 101 ∧ newarray.typeOf at' = .byte) ∨ (t = 102 ∧ newarray.typeOf at' = .short)) (h1 : Cond.arrayClass (newarray.typeOf at') ∈ lw_all) (hi : ¬ i < 0) (hq : i.toNatClampNeg = q) (hq2 : q ≤ 100000) (hlt : sh.1 < exA) (hk : k + 1 ≤ R.cells) (hn : n + q ≤ R.slots) (hd : decode cc pc = .ok (.newarray at', 2)) (kk : J G p l e R s m args below meth c nL oc Xf mc ms (newS sh t q, newI sh I) (k + 1) (n + q) (pc + 2) lv (.ref (wad G sh.1) :: st)) : J G p l e R s m args below meth c nL oc Xf mc ms (sh, I) k n pc lv (.int i :: st) := by
  intro H locs ls hR hL hv
  have e0 : H.size = gb G + sh.1 := hR.1.1
  refine va_newaK C.1 C.2.1 (C.2.2.2.2.1 _ h1) rfl hd rfl hi hq ?_ hk hn e0 fun H1 cA e1 e2 e3 hA hf => ?_
  · rcases ht with ⟨-, h⟩ | ⟨-, h⟩ | ⟨-, h⟩ <;> rw [h] <;> show q * _ ≤ _ <;> simp [componentBytes] <;> omega
  have ew := wad_lt (G := G) hlt
  have e9 : (newS sh t q).2.1 sh.1 = (t, q) := if_pos rfl
  have e7 : newI sh I sh.1 = fun _ => 0 := if_pos rfl
  have hcA : cA = gA G t ∧ defaultValue (newarray.typeOf at') = .int 0 ∧ 100 ≤ t ∧ t < 200 := by
    rcases ht with ⟨rfl, h⟩ | ⟨rfl, h⟩ | ⟨rfl, h⟩
    · rw [h] at hf ⊢
      have := (C.2.2.2.2.2.2.1.1.2 0 _ rfl).2
      exact ⟨Option.some.inj (hf.symm.trans this), rfl, by decide, by decide⟩
    · rw [h] at hf ⊢
      have := (C.2.2.2.2.2.2.1.1.2 1 _ rfl).2
      exact ⟨Option.some.inj (hf.symm.trans this), rfl, by decide, by decide⟩
    · rw [h] at hf ⊢
      have := (C.2.2.2.2.2.2.1.1.2 2 _ rfl).2
      exact ⟨Option.some.inj (hf.symm.trans this), rfl, by decide, by decide⟩
  obtain ⟨rfl, hdv, g1, g2⟩ := hcA
  rw [ew] at kk
  refine kk H1 locs ls (hR.grow hlt (by rw [e2, e0]) (fun x hx => e3 x (by omega)) ⟨fun h => ?_, fun h h' => ?_, fun h => ?_⟩) hL hv
  · exact absurd (show ((newS sh t q).2.1 sh.1).1 < 100 from h) (by rw [e9]; show ¬ (t < 100); omega)
  · show H1[wad G sh.1]? = some (arrV (gA G ((newS sh t q).2.1 sh.1).1) ((newS sh t q).2.1 sh.1).2 (fun j => .int (newI sh I sh.1 j)))
    rw [e9, e7, ew, e1, hdv]
  · exact absurd (show 200 ≤ ((newS sh t q).2.1 sh.1).1 from h) (by rw [e9]; show ¬ (200 ≤ t); omega)
/-! calls -/
theorem RelX.recv {H : Heap} {a c2 : Nat} {cr : vw_C} (C : Cx G p R s m args meth c cc own nL ret hh mn) (hR : RelX G X H) (ho : ob X.1 a c2) (hc : vwCl[c2]? = some cr) : ∃ cell : Cell, H[wad G a]? = some cell ∧ cell.vm.isStatics = false ∧ s.vm.findClass cr.1 = some cell.cls := by
  obtain ⟨cell, q1, q2, q3, -⟩ := hR.obj ho hc
  obtain ⟨-, hfc, -⟩ := C.2.2.2.2.2.2.1.1.1 c2 _ hc
  exact ⟨cell, q1, by cases hv : cell.vm <;> first | rfl | exact absurd hv (q3.2 _), by rw [q2]; exact hfc⟩
theorem x_objInit {a idx : Nat} (C : Cx G p R s m args meth c cc own nL ret hh mn) (h1 : Cond.methodLink own idx Lib.objectInit ∈ lw_all) (h2 : Cond.instanceMethod Lib.objectInit ∈ lw_all) (h3 : Cond.code Lib.objectInit ⟨#[0xb1]⟩ 1 none ∈ lw_all) (hd : decode cc pc = .ok (.invokespecial idx, 3)) (hfr : 1 ≤ R.frames) (hlo : (st.map fun v => v.category).sum + 12 ≤ R.locals) (kk : J G p l e R s m args below meth c nL oc Xf mc ms X k n (pc + 3) lv st) : J G p l e R s m args below meth c nL oc Xf mc ms X k n pc lv (.ref a :: st) :=
  fun H locs ls hR hL hv => W.objInit C.1 C.2.1 C.2.2.2.1 (C.2.2.2.2.1 _ h1) (C.2.2.2.2.1 _ h2) (C.2.2.2.2.1 _ h3) rfl (by show ls.size = c.maxLocals; rw [C.2.2.1]; exact hv.1) rfl hd hfr (by show 2 * 0 + _ + 12 ≤ _; omega) (kk H locs ls hR hL hv)
theorem x_callV {rm : Room} {v : Option Value} {As rest : List Value} {y : MethodName} {b : ByteArray} {L idx q a c2 : Nat} {r : Option FieldType} {cr : vw_C} (C : Cx G p R s m args meth c cc own nL ret hh mn) (hM : CT G l y (ws_ y b L r) rm (.ref (wad G a) :: As) X (.returned v) X') (hS : MV y b L r q) (ho : ob X.1 a c2) (hc : vwCl[c2]? = some cr) (hcy : cr.1 = y.cls) (hl : Cond.methodLink own idx y ∈ lw_all) (hd : decode cc pc = .ok (.invokevirtual idx, 3)) (hq : As.length = q) (hst : st = As.reverse ++ .ref (wad G a) :: rest) (hW : (rest.map fun v => v.category).sum ≤ 8) (hrm : rmOK rm R L k n = true) (kk : J G p l e R s m args below meth c nL oc Xf mc ms X' (k + rm.cells) (n + rm.slots) (pc + 3) lv (v.toList ++ rest)) : J G p l e R s m args below meth c nL oc Xf mc ms X k n pc lv st := by
  obtain ⟨h1, h2, h3, h4, h5⟩ := hS
  obtain ⟨r1, r2⟩ := rmOK.u hrm
  refine j_run (As := As) (rest := rest) (a9 := (.ref (wad G a) :: As : List Value).toArray) (fun H locs ls hR hz => ?_) kk
  refine va_runV (Ts := lw_all) (C := y.cls) (As := As) (rest := rest) ⟨C.1, C.2.1, C.2.2.1, C.2.2.2.1, C.2.2.2.2.1⟩ hM.met ⟨callB_of q C.2.2.2.2.1 (lw_meth h4) rfl rfl rfl (C.2.2.2.2.1 _ h3) (C.2.2.2.2.1 _ hl) h5 r1, C.2.2.2.2.1 _ h1, C.2.2.2.2.1 _ h2⟩ ⟨PcX.blind G _ X, by rw [← hcy]; exact hR.recv C ho hc, fun U hU hW => ⟨rfl, by rw [hU]; exact hR, C.2.2.2.2.2.2.1.moved hW⟩⟩ rfl hq hz hst (by show 2 * 0 + _ ≤ 8; omega) hd r2
theorem x_callVN {rm : Room} {v : Option Value} {As rest : List Value} {y : MethodName} {b : ByteArray} {L idx q a c2 : Nat} {r : Option FieldType} {cr : vw_C} {host : String} (C : Cx G p R s m args meth c cc own nL ret hh mn) (hM : CT G l y (ws_ y b L r) rm (.ref (wad G a) :: As) X (.returned v) X') (hS : MV y b L r q) (ho : ob X.1 a c2) (hc : vwCl[c2]? = some cr) (hcy : cr.1 = y.cls) (hl : Cond.methodLinkNest own idx y host ∈ lw_tbl) (hd : decode cc pc = .ok (.invokevirtual idx, 3)) (hq : As.length = q) (hst : st = As.reverse ++ .ref (wad G a) :: rest) (hW : (rest.map fun v => v.category).sum ≤ 8) (hrm : rmOK rm R L k n = true) (kk : J G p l e R s m args below meth c nL oc Xf mc ms X' (k + rm.cells) (n + rm.slots) (pc + 3) lv (v.toList ++ rest)) : J G p l e R s m args below meth c nL oc Xf mc ms X k n pc lv st := by
  obtain ⟨h1, h2, h3, h4, h5⟩ := hS
  obtain ⟨r1, r2⟩ := rmOK.u hrm
  refine j_run (As := As) (rest := rest) (a9 := (.ref (wad G a) :: As : List Value).toArray) (fun H locs ls hR hz => ?_) kk
  refine va_runVN (Ts := lw_all) (C := y.cls) (host := host) (As := As) (rest := rest) ⟨C.1, C.2.1, C.2.2.1, C.2.2.2.1, C.2.2.2.2.1⟩ hM.met ⟨va_cnB q C.2.2.2.2.1 (lw_meth h4) rfl rfl rfl (C.nw hl rfl) (C.2.2.2.2.1 _ h3) h5 r1, C.2.2.2.2.1 _ h1, C.2.2.2.2.1 _ h2⟩ ⟨PcX.blind G _ X, by rw [← hcy]; exact hR.recv C ho hc, fun U hU hW => ⟨rfl, by rw [hU]; exact hR, C.2.2.2.2.2.2.1.moved hW⟩⟩ rfl hq hz hst (by show 2 * 0 + _ ≤ 8; omega) hd r2
theorem x_callSN {rm : Room} {v : Option Value} {As rest : List Value} {y : MethodName} {b : ByteArray} {L idx q : Nat} {r : Option FieldType} {host : String} (C : Cx G p R s m args meth c cc own nL ret hh mn) (hM : CT G l y (ws_ y b L r) rm As X (.returned v) X') (hS : MS y b L r q) (hl : Cond.methodLinkNest own idx y host ∈ lw_tbl) (hd : decode cc pc = .ok (.invokestatic idx, 3)) (hq : As.length = q) (hst : st = As.reverse ++ rest) (hW : (rest.map fun v => v.category).sum ≤ 8) (hrm : rmOK rm R L k n = true) (kk : J G p l e R s m args below meth c nL oc Xf mc ms X' (k + rm.cells) (n + rm.slots) (pc + 3) lv (v.toList ++ rest)) : J G p l e R s m args below meth c nL oc Xf mc ms X k n pc lv st := by
  obtain ⟨h1, h2, h3, h4⟩ := hS
  obtain ⟨r1, r2⟩ := rmOK.u hrm
  refine j_run (As := As) (rest := rest) (a9 := As.toArray) (fun H locs ls hR hz => ?_) kk
  refine va_runSN (Ts := lw_all) (host := host) (As := As) (rest := rest) ⟨C.1, C.2.1, C.2.2.1, C.2.2.2.1, C.2.2.2.2.1⟩ hM.met ⟨va_cnB q C.2.2.2.2.1 (lw_meth h3) rfl rfl rfl (C.nw hl rfl) (C.2.2.2.2.1 _ h2) h4 r1, C.2.2.2.2.1 _ h1, trivial⟩ ⟨PcX.blind G As X, fun U hU hW => ⟨rfl, by rw [hU]; exact hR, C.2.2.2.2.2.2.1.moved hW⟩⟩ rfl hq hz hst (by show 2 * 0 + _ ≤ 8; omega) hd r2
/-- what is known of a constructor -/
def MI (y : MethodName) (b : ByteArray) (L : Nat) (q : Nat) : Prop := Cond.instanceMethod y ∈ lw_all ∧ Cond.initialized y.cls ∈ lw_all ∧ Cond.code y b L none ∈ lw_all ∧ y.name = "<init>" ∧ callOK y q
theorem x_callI {rm : Room} {As rest : List Value} {y : MethodName} {b : ByteArray} {L idx q a : Nat} (C : Cx G p R s m args meth c cc own nL ret hh mn) (hM : CT G l y (ws_ y b L none) rm (.ref (wad G a) :: As) X (.returned none) X') (hS : MI y b L q) (hl : Cond.methodLink own idx y ∈ lw_all) (hd : decode cc pc = .ok (.invokespecial idx, 3)) (hq : As.length = q) (hst : st = As.reverse ++ .ref (wad G a) :: rest) (hW : (rest.map fun v => v.category).sum ≤ 8) (hrm : rmOK rm R L k n = true) (kk : J G p l e R s m args below meth c nL oc Xf mc ms X' (k + rm.cells) (n + rm.slots) (pc + 3) lv rest) : J G p l e R s m args below meth c nL oc Xf mc ms X k n pc lv st := by
  obtain ⟨h1, h3, h4, h6, h5⟩ := hS
  obtain ⟨r1, r2⟩ := rmOK.u hrm
  refine j_run (v := none) (As := As) (rest := rest) (a9 := (.ref (wad G a) :: As : List Value).toArray) (fun H locs ls hR hz => ?_) kk
  refine va_runI (Ts := lw_all) (As := As) (rest := rest) ⟨C.1, C.2.1, C.2.2.1, C.2.2.2.1, C.2.2.2.2.1⟩ hM.met (cwI q C.2.2.2.2.1 (lw_meth h4) rfl rfl rfl (C.2.2.2.2.1 _ h3) (C.2.2.2.2.1 _ hl) (C.2.2.2.2.1 _ h1) h6 h5 r1) ⟨PcX.blind G _ X, fun U hU hW => ⟨rfl, by rw [hU]; exact hR, C.2.2.2.2.2.2.1.moved hW⟩⟩ rfl hq hz hst (by show 2 * 0 + _ ≤ 8; omega) hd r2
theorem x_callIN {rm : Room} {As rest : List Value} {y : MethodName} {b : ByteArray} {L idx q a : Nat} {host : String} (C : Cx G p R s m args meth c cc own nL ret hh mn) (hM : CT G l y (ws_ y b L none) rm (.ref (wad G a) :: As) X (.returned none) X') (hS : MI y b L q) (hl : Cond.methodLinkNest own idx y host ∈ lw_tbl) (hd : decode cc pc = .ok (.invokespecial idx, 3)) (hq : As.length = q) (hst : st = As.reverse ++ .ref (wad G a) :: rest) (hW : (rest.map fun v => v.category).sum ≤ 8) (hrm : rmOK rm R L k n = true) (kk : J G p l e R s m args below meth c nL oc Xf mc ms X' (k + rm.cells) (n + rm.slots) (pc + 3) lv rest) : J G p l e R s m args below meth c nL oc Xf mc ms X k n pc lv st := by
  obtain ⟨h1, h3, h4, h6, h5⟩ := hS
  obtain ⟨r1, r2⟩ := rmOK.u hrm
  refine j_run (v := none) (As := As) (rest := rest) (a9 := (.ref (wad G a) :: As : List Value).toArray) (fun H locs ls hR hz => ?_) kk
  refine va_runIN (Ts := lw_all) (host := host) (As := As) (rest := rest) ⟨C.1, C.2.1, C.2.2.1, C.2.2.2.1, C.2.2.2.2.1⟩ hM.met ⟨va_cnB q C.2.2.2.2.1 (lw_meth h4) rfl rfl rfl (C.nw hl rfl) (C.2.2.2.2.1 _ h3) h5 r1, h6, C.2.2.2.2.1 _ h1⟩ ⟨PcX.blind G _ X, fun U hU hW => ⟨rfl, by rw [hU]; exact hR, C.2.2.2.2.2.2.1.moved hW⟩⟩ rfl hq hz hst (by show 2 * 0 + _ ≤ 8; omega) hd r2
/-- a call through an object whose class inherits what is called -/
theorem x_callU {rm : Room} {v : Option Value} {As rest : List Value} {x y : MethodName} {owner : String} {b : ByteArray} {L idx q a c2 : Nat} {r : Option FieldType} {cr : vw_C} (C : Cx G p R s m args meth c cc own nL ret hh mn) (hM : CT G l y (ws_ y b L r) rm (.ref (wad G a) :: As) X (.returned v) X') (ho : ob X.1 a c2) (hc : vwCl[c2]? = some cr) (hl : Cond.methodLink own idx x ∈ lw_all) (h1 : Cond.sameMethod x.cls owner x.name x.desc ∈ lw_all) (h2 : Cond.selects cr.1 x y ∈ lw_all) (h3 : Cond.instanceMethod y ∈ lw_all) (h4 : Cond.initialized y.cls ∈ lw_all) (h5 : Cond.code y b L r ∈ lw_all) (hyx : y = ⟨owner, x.name, x.desc⟩) (hok : callOK y q) (hd : decode cc pc = .ok (.invokevirtual idx, 3)) (hq : As.length = q) (hst : st = As.reverse ++ .ref (wad G a) :: rest) (hW : (rest.map fun v => v.category).sum ≤ 8) (hrm : rmOK rm R L k n = true) (kk : J G p l e R s m args below meth c nL oc Xf mc ms X' (k + rm.cells) (n + rm.slots) (pc + 3) lv (v.toList ++ rest)) : J G p l e R s m args below meth c nL oc Xf mc ms X k n pc lv st := by
  obtain ⟨r1, r2⟩ := rmOK.u hrm
  refine j_run (As := As) (rest := rest) (a9 := (.ref (wad G a) :: As : List Value).toArray) (fun H locs ls hR hz => ?_) kk
  refine va_runU (Ts := lw_all) (C := cr.1) (owner := owner) (x := x) (As := As) (rest := rest) ⟨C.1, C.2.1, C.2.2.1, C.2.2.2.1, C.2.2.2.2.1⟩ hM.met (va_cwU q C.2.2.2.2.1 (lw_app ?_ (lw_meth h5)) rfl rfl rfl hyx (by rw [hyx] at hok; exact hok) r1) ⟨PcX.blind G _ X, hR.recv C ho hc, fun U hU hW => ⟨rfl, by rw [hU]; exact hR, C.2.2.2.2.2.2.1.moved hW⟩⟩ rfl hq hz hst (by show 2 * 0 + _ ≤ 8; omega) hd r2
  intro w hw
  simp only [List.mem_cons, List.not_mem_nil, or_false] at hw
  rcases hw with e | e | e | e | e <;> rw [e] <;> assumption
/-- a call through an object whose class overrides what is called -/
theorem x_callO {rm : Room} {v : Option Value} {As rest : List Value} {x y : MethodName} {owner : String} {b b0 : ByteArray} {L L0 idx q a c2 : Nat} {r r0 : Option FieldType} {cr : vw_C} (C : Cx G p R s m args meth c cc own nL ret hh mn) (hM : CT G l y (ws_ y b L r) rm (.ref (wad G a) :: As) X (.returned v) X') (ho : ob X.1 a c2) (hc : vwCl[c2]? = some cr) (hl : Cond.methodLink own idx x ∈ lw_all) (h1 : Cond.sameMethod x.cls owner x.name x.desc ∈ lw_all) (h6 : Cond.instanceMethod ⟨owner, x.name, x.desc⟩ ∈ lw_all) (h2 : Cond.selects cr.1 x y ∈ lw_all) (h3 : Cond.instanceMethod y ∈ lw_all) (h4 : Cond.initialized y.cls ∈ lw_all) (h5 : Cond.code y b L r ∈ lw_all) (h0 : Cond.code ⟨owner, x.name, x.desc⟩ b0 L0 r0 ∈ lw_all) (hok : callOK ⟨owner, x.name, x.desc⟩ q) (hd : decode cc pc = .ok (.invokevirtual idx, 3)) (hq : As.length = q) (hst : st = As.reverse ++ .ref (wad G a) :: rest) (hW : (rest.map fun v => v.category).sum ≤ 8) (hrm : rmOK rm R L k n = true) (kk : J G p l e R s m args below meth c nL oc Xf mc ms X' (k + rm.cells) (n + rm.slots) (pc + 3) lv (v.toList ++ rest)) : J G p l e R s m args below meth c nL oc Xf mc ms X k n pc lv st := by
  obtain ⟨r1, r2⟩ := rmOK.u hrm
  refine j_run (As := As) (rest := rest) (a9 := (.ref (wad G a) :: As : List Value).toArray) (fun H locs ls hR hz => ?_) kk
  refine va_runU (Ts := lw_all) (C := cr.1) (owner := owner) (x := x) (As := As) (rest := rest) ⟨C.1, C.2.1, C.2.2.1, C.2.2.2.1, C.2.2.2.2.1⟩ hM.met (va_cwO q C.2.2.2.2.1 (lw_app ?_ (lw_meth h5)) rfl rfl rfl h0 hok r1) ⟨PcX.blind G _ X, hR.recv C ho hc, fun U hU hW => ⟨rfl, by rw [hU]; exact hR, C.2.2.2.2.2.2.1.moved hW⟩⟩ rfl hq hz hst (by show 2 * 0 + _ ≤ 8; omega) hd r2
  intro w hw
  simp only [List.mem_cons, List.not_mem_nil, or_false] at hw
  rcases hw with e | e | e | e | e | e <;> rw [e] <;> assumption
/-- super.m() -/
theorem x_callSU {rm : Room} {v : Option Value} {As rest : List Value} {y : MethodName} {b : ByteArray} {L idx q a c2 : Nat} {r : Option FieldType} {cr : vw_C} (C : Cx G p R s m args meth c cc own nL ret hh mn) (hM : CT G l y (ws_ y b L r) rm (.ref (wad G a) :: As) X (.returned v) X') (ho : ob X.1 a c2) (hc : vwCl[c2]? = some cr) (hl : Cond.methodLink own idx y ∈ lw_all) (h1 : Cond.sameMethod y.cls y.cls y.name y.desc ∈ lw_all) (h2 : Cond.superclass own y.cls ∈ lw_all) (h3 : Cond.instanceMethod y ∈ lw_all) (h4 : Cond.initialized y.cls ∈ lw_all) (h5 : Cond.code y b L r ∈ lw_all) (hni : y.name ≠ "<init>") (hok : callOK y q) (hd : decode cc pc = .ok (.invokespecial idx, 3)) (hq : As.length = q) (hst : st = As.reverse ++ .ref (wad G a) :: rest) (hW : (rest.map fun v => v.category).sum ≤ 8) (hrm : rmOK rm R L k n = true) (kk : J G p l e R s m args below meth c nL oc Xf mc ms X' (k + rm.cells) (n + rm.slots) (pc + 3) lv (v.toList ++ rest)) : J G p l e R s m args below meth c nL oc Xf mc ms X k n pc lv st := by
  obtain ⟨r1, r2⟩ := rmOK.u hrm
  refine j_run (As := As) (rest := rest) (a9 := (.ref (wad G a) :: As : List Value).toArray) (fun H locs ls hR hz => ?_) kk
  refine va_runSU (Ts := lw_all) (C := cr.1) (As := As) (rest := rest) (C.2.2.2.2.2.2.1.1.1 c2 _ hc).2 ⟨C.1, C.2.1, C.2.2.1, C.2.2.2.1, C.2.2.2.2.1⟩ hM.met (va_cwSU q C.2.2.2.2.1 (lw_app ?_ (lw_meth h5)) rfl rfl rfl ⟨hni, hok.2.2⟩ r1) ⟨PcX.blind G _ X, hR.recv C ho hc, fun U hU hW => ⟨rfl, by rw [hU]; exact hR, C.2.2.2.2.2.2.1.moved hW⟩⟩ rfl hq hz hst (by show 2 * 0 + _ ≤ 8; omega) hd r2
  intro w hw
  simp only [List.mem_cons, List.not_mem_nil, or_false] at hw
  rcases hw with e | e | e | e | e <;> rw [e] <;> assumption
theorem x_castY {a c2 idx : Nat} {nm : String} {cr : vw_C} (C : Cx G p R s m args meth c cc own nL ret hh mn) (ho : ob X.1 a c2) (hc : vwCl[c2]? = some cr) (hl : Cond.classLink own idx nm ∈ lw_all) (hy : Cond.castable cr.1 nm ∈ lw_tbl) (hd : decode cc pc = .ok (.checkcast idx, 3)) (kk : J G p l e R s m args below meth c nL oc Xf mc ms X k n (pc + 3) lv (.ref (wad G a) :: st)) : J G p l e R s m args below meth c nL oc Xf mc ms X k n pc lv (.ref (wad G a) :: st) :=
  fun H locs ls hR hL hv => va_castY C.1 C.2.1 C.2.2.2.1 (C.2.2.2.2.1 _ hl) (C.nw hy rfl) (hR.recv C ho hc) hd (kk H locs ls hR hL hv)
theorem x_castS {a c2 idx : Nat} {cr : vw_C} (C : Cx G p R s m args meth c cc own nL ret hh mn) (ho : ob X.1 a c2) (hc : vwCl[c2]? = some cr) (hl : Cond.classLink own idx cr.1 ∈ lw_all) (hd : decode cc pc = .ok (.checkcast idx, 3)) (kk : J G p l e R s m args below meth c nL oc Xf mc ms X k n (pc + 3) lv (.ref (wad G a) :: st)) : J G p l e R s m args below meth c nL oc Xf mc ms X k n pc lv (.ref (wad G a) :: st) :=
  fun H locs ls hR hL hv => va_castS C.1 C.2.1 C.2.2.2.1 (C.2.2.2.2.1 _ hl) (C.2.2.2.2.2.2.1.1.1 c2 _ hc).2 (hR.recv C ho hc) hd (kk H locs ls hR hL hv)
theorem x_ifnull {o : Option Nat} {off : Int} (tgt : Nat) (C : Cx G p R s m args meth c cc own nL ret hh mn) (hd : decode cc pc = .ok (.ifnull off, 3)) (ht : (pc : Int) + off = (tgt : Int)) (kt : o = none → J G p l e R s m args below meth c nL oc Xf mc ms X k n tgt lv st) (kf : ¬ o = none → J G p l e R s m args below meth c nL oc Xf mc ms X k n (pc + 3) lv st) : J G p l e R s m args below meth c nL oc Xf mc ms X k n pc lv (va_rf (o.map (wad G)) :: st) := by
  intro H locs ls hR hL hv
  cases o with
  | none => exact lv_ifnullN C.1 C.2.1 hd ht (kt rfl H locs ls hR hL hv)
  | some t => exact lv_ifnull C.1 C.2.1 hd (kf (by simp) H locs ls hR hL hv)
theorem x_ifnonnull {o : Option Nat} {off : Int} (tgt : Nat) (C : Cx G p R s m args meth c cc own nL ret hh mn) (hd : decode cc pc = .ok (.ifnonnull off, 3)) (ht : (pc : Int) + off = (tgt : Int)) (kt : ¬ o = none → J G p l e R s m args below meth c nL oc Xf mc ms X k n tgt lv st) (kf : o = none → J G p l e R s m args below meth c nL oc Xf mc ms X k n (pc + 3) lv st) : J G p l e R s m args below meth c nL oc Xf mc ms X k n pc lv (va_rf (o.map (wad G)) :: st) := by
  intro H locs ls hR hL hv
  cases o with
  | none => exact lv_ifnonnullN C.1 C.2.1 hd (kf rfl H locs ls hR hL hv)
  | some t => exact lv_ifnonnull C.1 C.2.1 hd ht (kt (by simp) H locs ls hR hL hv)
theorem x_aret {a : Nat} {rt : FieldType} (C : Cx G p R s m args meth c cc own nL (some rt) hh mn) (hd : decode cc pc = .ok (.areturn, 1)) (hk : k ≤ mc) (hn : n ≤ ms) (hrt : isRT rt = true) : J G p l e R s m args below meth c nL (.returned (some (.ref (wad G a)))) X mc ms X k n pc lv [.ref (wad G a)] :=
  j_aret C hd hk hn (by cases rt <;> first | exact Or.inl ⟨_, rfl⟩ | exact Or.inr ⟨_, rfl⟩ | cases hrt) (Or.inr ⟨_, rfl⟩)
theorem x_aretN {o : Option Nat} {rt : FieldType} (C : Cx G p R s m args meth c cc own nL (some rt) hh mn) (hd : decode cc pc = .ok (.areturn, 1)) (hk : k ≤ mc) (hn : n ≤ ms) (hrt : isRT rt = true) : J G p l e R s m args below meth c nL (.returned (some (va_rf (o.map (wad G))))) X mc ms X k n pc lv [va_rf (o.map (wad G))] :=
  j_aret C hd hk hn (by cases rt <;> first | exact Or.inl ⟨_, rfl⟩ | exact Or.inr ⟨_, rfl⟩ | cases hrt) (by cases o <;> first | exact Or.inl rfl | exact Or.inr ⟨_, rfl⟩)
/-! what is thrown -/
theorem CT.ofJW {y : MethodName} {rm : Room} {As : List Value} (own : String) (hy0 : y.cls = own) (hy : plainName y.cls = true) (hL : (lg_sl As).length ≤ nL) (body : ∀ (p : Program) (e : Env) (s : State) (m : MethodId) (args : Array Value) (below : List Frame) (meth : Method) (c : Code), Cx G p rm s m args meth c cc own nL ret hh y.name → J G p l e rm s m args below meth c nL oc Xf rm.cells rm.slots X 0 0 0 (lvA As nL) []) : CT G l y (wsW_ y cc nL ret hh) rm As X oc Xf := by
  refine MetFree.of_bodyS (code := cc) (maxLocals := nL) (ret := ret) hy ?_ ?_
  · intro args s m h hn
    obtain ⟨m9, meth, c, hn9, h1, h2, h3, h4, -, h5, h6, -⟩ := Cond.codeWith_spec (atoms_spec (ws := wsW_ y cc nL ret hh) h _ List.mem_cons_self)
    cases hn.symm.trans hn9
    exact ⟨meth, c, h1, h2, h3, h4, h5, h6⟩
  · intro p e s m args below meth c s₁ B hml hP _
    obtain ⟨rfl, hR, hK⟩ := hP
    have hh0 : s₁.heap = s.heap := by rw [B.state]; rfl
    have hts := atoms_spec (ws := wsW_ y cc nL ret hh) B.pre
    obtain ⟨m9, meth', c', hn9, h1, h2, -, -, h3, -⟩ := Cond.codeWith_spec (hts _ List.mem_cons_self)
    cases B.named.symm.trans hn9
    cases B.method.symm.trans h1
    cases (Stand.of_body B).code.symm.trans h2
    have C : Cx G p rm s m As.toArray meth c cc own nL ret hh y.name := hy0 ▸ ⟨B.exec, B.bytes, hml, findClass_of_methodNamed B.named, fun w h => hts w (List.mem_cons_of_mem _ h), B.notSynchronized, hK, B.returns, h3, (name_of_methodNamed B.named B.method).1⟩
    have hl := lv_entry As (n := nL) hL
    have K := body p e s m _ below meth c C s.heap [] _ hR (fun q h => by cases h) ⟨hl.1, hl.2.1, fun q v h => hl.2.2 (q, v) (by have := lvA_mem As nL 0 q v h; rwa [Nat.zero_add] at this)⟩
    rw [← lg_entry_eq] at K
    obtain ⟨t, a1, o, b1, b2, b3, L, b4, b5⟩ := K s₁ hh0 (Stand.of_body B)
    exact ⟨t, o, a1, b1, b2, b3, L, b4, b5⟩
/-- no row of the table covers the place -/
def uncov (hh : List (Nat × Nat × Nat × Nat)) (pc : Nat) : Bool := hh.all fun x => !(decide (x.1 ≤ pc) && decide (pc < x.2.1))
theorem uncov.out (C : Cx G p R s m args meth c cc own nL ret hh mn) (h : uncov hh pc = true) : ∀ x ∈ c.exceptionTable.toList, covers x pc = false := by
  intro x hx
  have e := C.2.2.2.2.2.2.2.2.1
  have h1 : (x.startPc, x.endPc, x.handlerPc, x.catchType) ∈ hh := by rw [← e]; exact List.mem_map.mpr ⟨x, hx, rfl⟩
  have h2 := List.all_eq_true.mp h _ h1
  exact (Bool.not_eq_true' _).mp h2
theorem x_athrow {a : Nat} (C : Cx G p R s m args meth c cc own nL ret hh mn) (hu : uncov hh pc = true) (hd : decode cc pc = .ok (.athrow, 1)) (hk : k ≤ mc) (hn : n ≤ ms) : J G p l e R s m args below meth c nL (.threw (wad G a)) X mc ms X k n pc lv (.ref (wad G a) :: st) := by
  intro H locs ls hR hL hv
  refine W.widen hk hn ?_
  intro T hT XT
  have hlocks : meth.locks = false := C.2.2.2.2.2.1
  obtain ⟨h1, h2, h3, h4, h5⟩ := XT.athrowLeaves C.1 (g := F0 m pc ls (.ref (wad G a) :: st)) rfl rfl rfl (uncov.out C hu) (a := wad G a) (rest := st) rfl (by rw [C.2.1]; exact hd)
  exact ⟨_, h1, .threw (wad G a), h2, h3, ⟨rfl, by show RelX G X T.heap; rw [hT]; exact hR⟩, locs, ⟨h4, h5⟩, hL⟩
/-- a callee that throws: the machine stands again in the caller, the note laid over its frame -/
theorem ct_throws {y : MethodName} {ws : List Cond} {rm : Room} {As : List Value} {ta : Nat} {b : ByteArray} {L : Nat} {r : Option FieldType} {U : State} {locs : List Loc} {g : JFrame} {ig : Instr} {len : Nat} {mk : MethodId} (hM : CT G l y ws rm As X (.threw ta) X') (XS : Stand p l e R s m args below meth c U locs k n) (hg : g.method = m) (hsize : g.locals.size = c.maxLocals) (hdg : decode c.code g.pc = .ok (ig, len)) (hW : 2 * g.monitorRoom + (g.stack.map fun v => v.category).sum ≤ 8) (hnm : U.methodNamed? y = some mk) (hcode : (Cond.code y b L r).before As.toArray U = true) (hini : (Cond.initialized y.cls).before As.toArray U = true) (hws : (headSpec ws rm).pre.before As.toArray U = true) (hfr : rm.frames + 1 ≤ R.frames) (hlo : 8 + (L + 11) + rm.locals ≤ R.locals) (hc : k + rm.cells ≤ R.cells) (hs : n + rm.slots ≤ R.slots) (hRel : RelX G X U.heap) (hK : Kx G U) :
    ∃ (B : State) (Ls : List Loc), Stand p l e R s m args below meth c B (locs ++ Ls) (k + rm.cells) (n + rm.slots) ∧ (∀ q ∈ Ls, gb G ≤ q.base) ∧ RelX G X' B.heap ∧ Steps p.tables e below (doInvoke e (U.setTop g) [] mk As.toArray).1 ((B.setTop g).pushFrame (.throwing ta)) := by
  obtain ⟨methY, cY, hmY, hcY, -, hlY, -, -, -, -⟩ := Cond.code_spec hnm hcode
  obtain ⟨kY, hkY, -⟩ := className_of_methodNamed hnm
  have hinitY : kY.init = .initialized := Cond.initialized_spec (findClass_of_methodNamed hnm) hkY hini
  have h : At U g.method c below := by rw [hg]; exact XS.here
  have happ : (headSpec ws rm).appliesLoose y e.platform (U.calling g mk As.toArray) = true :=
    Spec.appliesLoose_calling (g := g) h hdg hnm hkY hinitY (XS.room_calling (g := g) (R' := rm) hsize hmY hcY hfr (by rw [hlY]; omega) hc hs) hws
  obtain ⟨mid, hmid⟩ := h.above
  have hfr2 : (U.setTop g).frames = (.java g :: mid) ++ below := by rw [State.frames_setTop' g h.top, hmid]; rfl
  obtain ⟨o, s₂, hsteps, -, hend, hq⟩ := Steps.callFree hM p XS.admits XS.cas XS.clock (acts := []) hfr2 happ ⟨rfl, hRel, hK.same rfl⟩ trivial
  have hq' : QcX G (.threw ta) X' As.toArray (U.calling g mk As.toArray) o s₂ ∧ ∃ L, ((U.calling g mk As.toArray).WarmedH s₂.vm ∧ (U.calling g mk As.toArray).sameButNew ({ s₂ with vm := (U.calling g mk As.toArray).vm } : State) L rm.cells rm.slots) ∧ ∀ q ∈ L, gb G ≤ q.base := hq
  rw [State.frames_setTop' g h.top] at hend
  obtain ⟨⟨ho, hrel⟩, Ls, ⟨hW₂, hsm⟩, hLs⟩ := hq'
  subst ho
  obtain ⟨e2, q2, q3, q4, q5, q6⟩ := hsm
  have e3 : s₂ = ({ (U.calling g mk As.toArray).setFrames s₂.frames with heap := s₂.heap, slotsUsed := s₂.slotsUsed } : State).setVm s₂.vm := by
    have h9 : s₂ = ({ s₂ with vm := (U.calling g mk As.toArray).vm } : State).setVm s₂.vm := rfl
    rw [e2] at h9
    exact h9
  have hf₂ : s₂.frames = .throwing ta :: .java g :: U.frames.tail := hend
  have hW' : U.WarmedH s₂.vm := hW₂
  obtain ⟨g₀, hg0⟩ := Option.isSome_iff_exists.mp h.top
  obtain ⟨fr, hr⟩ := State.topJava?_eq_some.mp hg0
  have hs₂ : s₂ = ((({ U with heap := s₂.heap, slotsUsed := s₂.slotsUsed } : State).setVm s₂.vm).setTop g).pushFrame (.throwing ta) := by
    have hr' : (({ U with heap := s₂.heap, slotsUsed := s₂.slotsUsed } : State).setVm s₂.vm).frames = .java g₀ :: fr := hr
    refine e3.trans ?_
    rw [hf₂, State.calling_eq h.top, State.setFrames_setFrames, State.pushFrame, State.frames_setTop _ hr', State.setTop_of_frames _ hr', State.setFrames_setFrames, hr]
    rfl
  have hsame : U.sameButNew ({ U with heap := s₂.heap, slotsUsed := s₂.slotsUsed } : State) Ls rm.cells rm.slots := by
    refine ⟨?_, q2, q3, q4, q5, q6⟩
    obtain ⟨t, ht, -⟩ := State.frames_cons hr
    show ({ U with heap := s₂.heap, slotsUsed := s₂.slotsUsed } : State) = { U.setFrames U.frames with heap := s₂.heap, slotsUsed := s₂.slotsUsed }
    rw [State.setFrames_self ht]
  subst hg
  refine ⟨({ U with heap := s₂.heap, slotsUsed := s₂.slotsUsed } : State).setVm s₂.vm, Ls, ⟨XS.admits, XS.cas, XS.clock, XS.frames, XS.room, XS.hears, XS.method, XS.code, (XS.here.setHeapUsed s₂.heap s₂.slotsUsed).setVm hW'.alike, XS.tail, State.WarmedH.trans XS.warmed hW', XS.limits, XS.bytes, XS.same.trans (hsame.setVm s.vm)⟩, hLs, hrel, ?_⟩
  rw [← hs₂]
  exact hsteps
/-- the call of a method that throws, up to the note over the caller's frame -/
theorem x_thrown {rm : Room} {ta : Nat} {As rest : List Value} {y : MethodName} {b : ByteArray} {L idx q a c2 : Nat} {r : Option FieldType} {cr : vw_C} (C : Cx G p R s m args meth c cc own nL ret hh mn) (hM : CT G l y (ws_ y b L r) rm (.ref (wad G a) :: As) X (.threw ta) X') (hS : MV y b L r q) (ho : ob X.1 a c2) (hc : vwCl[c2]? = some cr) (hcy : cr.1 = y.cls) (hl : Cond.methodLink own idx y ∈ lw_all) (hd : decode cc pc = .ok (.invokevirtual idx, 3)) (hq : As.length = q) (hst : st = As.reverse ++ .ref (wad G a) :: rest) (hW : (rest.map fun v => v.category).sum ≤ 8) (hrm : rmOK rm R L k n = true)
    (kk : ∀ (locs : List Loc) (ls : Array Slot) (B : State), RelX G X' B.heap → (∀ q ∈ locs, gb G ≤ q.base) → lvH ls nL lv → Stand p l e R s m args below meth c B locs (k + rm.cells) (n + rm.slots) → ∃ t, Steps p.tables e below ((B.setTop (F0 m pc ls rest)).pushFrame (.throwing ta)) t ∧ QX G below s oc Xf mc ms t) : J G p l e R s m args below meth c nL oc Xf mc ms X k n pc lv st := by
  obtain ⟨h1, h2, h3, h4, h5⟩ := hS
  obtain ⟨⟨r1, r1'⟩, r2, r2'⟩ := rmOK.u hrm
  intro H locs ls hR hL hv T hT XT
  have hts := C.2.2.2.2.1
  obtain ⟨cellB, hcB, hoB, hclB⟩ := hR.recv C ho hc
  rw [hcy] at hclB
  obtain ⟨mk, methM, hnamed, hmethM, hstM, habM⟩ := Cond.instanceMethod_spec (hts _ h1)
  obtain ⟨methM', cM, hmethM', -, -, -, -, -, -, hsigM⟩ := Cond.code_spec hnamed (hts _ h4)
  cases hmethM.symm.trans hmethM'
  obtain ⟨c3, r3, m3, q1, q2, q3, q4, kP, hkP, hkPi⟩ := Cond.selects_spec (hts _ h2)
  cases hclB.symm.trans q1
  cases (State.methodFound?_of_named hnamed ⟨h5.1, h5.2.1⟩).symm.trans q2
  cases hnamed.symm.trans q3
  have hselP : selectMethod e.platform s.vm cellB.cls mk = .method mk := by rw [Launch.admits_selectMethod XT.admits]; exact q4
  have hlen : ∀ sig, parseMethodDescriptor y.desc = some sig → As.length = sig.parameters.length := by
    intro sig hsig
    have h6 := h5.2.2
    rw [hsig] at h6
    rw [hq]
    exact (Option.some.inj h6).symm
  subst hst
  obtain ⟨vm₁, X₁, hstep₁⟩ := XT.invokevirtual C.1 C.2.2.2.1 (hts _ hl) hnamed hmethM hstM hkP hkPi ⟨h5.1, h5.2.1⟩ (a := wad G a) (cell := cellB) (by rw [hT]; exact hcB) (fun z h => by rw [h] at hoB; cases hoB) hselP hmethM habM hkP hkPi (g := F0 m pc ls (As.reverse ++ .ref (wad G a) :: rest)) rfl (argsL := As) (rest := rest) (hlen _ hsigM) rfl (by rw [C.2.1]; exact hd)
  obtain ⟨B, Ls, XB, hLs, hB, hsteps⟩ := ct_throws (b := b) (L := L) (r := r) hM X₁ (g := F0 m pc ls rest) (ig := .invokevirtual idx) (len := 3) rfl (by rw [C.2.2.1]; exact hv.1) (by rw [C.2.1]; exact hd) (by show 2 * 0 + (rest.map fun v => v.category).sum ≤ 8; omega) (X₁.named hnamed) (word_at X₁.warmed (lw_self _ h4).2 (hts _ h4)) (word_at X₁.warmed (lw_self _ h3).2 (hts _ h3)) (atoms_intro fun w hw => word_at X₁.warmed (lw_meth h4 w hw).2 (hts _ (lw_meth h4 w hw).1)) r1 r1' r2 r2' (by show RelX G X T.heap; rw [hT]; exact hR) (C.2.2.2.2.2.2.1.moved X₁.warmed)
  obtain ⟨t, ht1, ht2⟩ := kk (locs ++ Ls) ls B hB (t_lL hL hLs) hv XB
  exact ⟨t, hstep₁ _ (fun acts => by rw [doInvoke_state]; exact hsteps.trans ht1), ht2⟩
/-- .. and no row of the caller's table covers the place: it throws it too -/
theorem x_callVT {rm : Room} {a9 : Nat} {As rest : List Value} {y : MethodName} {b : ByteArray} {L idx q a c2 : Nat} {r : Option FieldType} {cr : vw_C} (C : Cx G p R s m args meth c cc own nL ret hh mn) (hM : CT G l y (ws_ y b L r) rm (.ref (wad G a) :: As) X (.threw (wad G a9)) X') (hS : MV y b L r q) (ho : ob X.1 a c2) (hc : vwCl[c2]? = some cr) (hcy : cr.1 = y.cls) (hl : Cond.methodLink own idx y ∈ lw_all) (hd : decode cc pc = .ok (.invokevirtual idx, 3)) (hq : As.length = q) (hst : st = As.reverse ++ .ref (wad G a) :: rest) (hW : (rest.map fun v => v.category).sum ≤ 8) (hrm : rmOK rm R L k n = true) (hu : uncov hh pc = true) (hk : k + rm.cells ≤ mc) (hn : n + rm.slots ≤ ms) : J G p l e R s m args below meth c nL (.threw (wad G a9)) X' mc ms X k n pc lv st := by
  refine x_thrown C hM hS ho hc hcy hl hd hq hst hW hrm (fun locs ls B hB hL hv XB => ?_)
  have hlocks : meth.locks = false := C.2.2.2.2.2.1
  obtain ⟨h1, h2, h3, h4, h5⟩ := (stand_widen XB hk hn).leaveThrown (wad G a9) (g := F0 m pc ls rest) rfl rfl rfl (uncov.out C hu)
  exact ⟨_, h1, .threw (wad G a9), h2, h3, ⟨rfl, hB⟩, locs, ⟨h4, h5⟩, hL⟩
/-! what is caught -/
/-- the search of a frame's table ends so, the tables warmed to vm' -/
def srch (e : Env) (S : State) (f : JFrame) (a : Addr) (t : List ExceptionTableEntry) (hp : Nat) (vm' : Vm) : Prop := ∀ (Q : Handler → Pre) (E : CtlPost) (d : Bool) (acts : List Action), wp (findHandler.go f a t) Q E e d acts S ↔ Q (.found hp) d acts (S.setVm vm')
theorem srch_row {S : State} {f : JFrame} {a : Addr} {x : ExceptionTableEntry} {t : List ExceptionTableEntry} {cT : ClassId} {cell : Cell} (hx : covers x f.pc = true) (h0 : x.catchType ≠ 0) (hl : S.vm.ClassLinks e.platform f.method.cls x.catchType cT) (hcell : S.heap[a]? = some cell) (hobj : cell.vm.isStatics = false) (hk : ∃ q, S.vm.classes[cell.cls]? = some q) (hc : ∃ q, S.vm.classes[cT]? = some q) {Q : Handler → Pre} {E : CtlPost} {d : Bool} {acts : List Action} :
    wp (findHandler.go f a (x :: t)) Q E e d acts S ↔ (if S.vm.assignable cell.cls cT = true then Q (.found x.handlerPc) d acts (S.setVm (S.vm.noted f.method.cls x.catchType (.cls cT))) else wp (findHandler.go f a t) Q E e d acts (S.setVm (S.vm.noted f.method.cls x.catchType (.cls cT)))) := by
  simp only [covers] at hx
  have hob := VmData.ne_statics_of hobj
  obtain ⟨u1, u2⟩ := (resolveClass_links e.toSetting hl).op (op := VmOp.resolveClass f.method.cls x.catchType) rfl
  have hal : S.vm.Alike (S.vm.noted f.method.cls x.catchType (.cls cT)) := (Vm.Alike.refl S.vm).noted _ _ _
  obtain ⟨k1, hk1⟩ := hk
  obtain ⟨k2, hk2⟩ := hc
  obtain ⟨k3, hk3, -⟩ := hal.2.2 _ _ hk1
  obtain ⟨k4, hk4, -⟩ := hal.2.2 _ _ hk2
  have h9 : (S.vm.noted f.method.cls x.catchType (.cls cT)).assignable cell.cls cT = S.vm.assignable cell.cls cT := by rw [hal.assignable]
  cases hf : S.vm.assignable cell.cls cT with
  | true => rw [hf] at h9; simp [findHandler.go, hx, h0, u1, u2, hcell, hob, hk3, hk4, h9, VmOp.dirties, VmOp.acts]
  | false => rw [hf] at h9; simp [findHandler.go, hx, h0, u1, u2, hcell, hob, hk3, hk4, h9, VmOp.dirties, VmOp.acts]
/-- the rows ahead pass it by; this one takes it -/
def passes1 (pl : Platform) (s : State) (d : ClassId) (pc : Nat) (th : ClassId) (y : ExceptionTableEntry) : Prop := covers y pc = false ∨ (y.catchType ≠ 0 ∧ ∃ cT, s.vm.ClassLinks pl d y.catchType cT ∧ s.vm.assignable th cT = false)
theorem srch_all {f : JFrame} {a : Addr} {cell : Cell} (hobj : cell.vm.isStatics = false) (hk0 : ∃ q, s.vm.classes[cell.cls]? = some q) (x : ExceptionTableEntry) (rest : List ExceptionTableEntry) (hx : covers x f.pc = true) (h0 : x.catchType ≠ 0) {cT : ClassId} (hl : s.vm.ClassLinks e.platform f.method.cls x.catchType cT) (hfit : s.vm.assignable cell.cls cT = true) :
    ∀ (pre : List ExceptionTableEntry) (S : State), s.WarmedH S.vm → S.heap[a]? = some cell → (∀ y ∈ pre, passes1 e.platform s f.method.cls f.pc cell.cls y) → ∃ vm', s.WarmedH vm' ∧ srch e S f a (pre ++ x :: rest) x.handlerPc vm' := by
  obtain ⟨k0, hk0⟩ := hk0
  intro pre
  induction pre with
  | nil =>
    intro S hW hcell _
    obtain ⟨k0', hk0', -⟩ := hW.alike.2.2 _ _ hk0
    obtain ⟨dk, _, _, kt, hd, _, _, _, _, hkt, _, hopen⟩ := hl.here
    obtain ⟨kt', hkt', -⟩ := hW.alike.2.2 _ _ hkt
    refine ⟨_, hW.noted hd hopen (State.rightAt_cls hl), fun Q E d acts => ?_⟩
    rw [List.nil_append, srch_row hx h0 (hW.classLinks hl) hcell hobj ⟨k0', hk0'⟩ ⟨kt', hkt'⟩, if_pos (by rw [hW.alike.assignable]; exact hfit)]
  | cons y ys ih =>
    intro S hW hcell hpass
    obtain ⟨k0', hk0', -⟩ := hW.alike.2.2 _ _ hk0
    have hrest : ∀ z ∈ ys, passes1 e.platform s f.method.cls f.pc cell.cls z := fun z hz => hpass z (List.mem_cons_of_mem _ hz)
    cases hcov : covers y f.pc with
    | false =>
      obtain ⟨vm', hW', hq⟩ := ih S hW hcell hrest
      refine ⟨vm', hW', fun Q E d acts => ?_⟩
      rw [List.cons_append, W.findHandler_go_skip hcov]
      exact hq Q E d acts
    | true =>
      rcases hpass y List.mem_cons_self with h | ⟨g0, c2, gl, hno⟩
      · rw [h] at hcov; cases hcov
      · obtain ⟨dk, _, _, kt, hd, _, _, _, _, hkt, _, hopen⟩ := gl.here
        obtain ⟨kt', hkt', -⟩ := hW.alike.2.2 _ _ hkt
        obtain ⟨vm', hW', hq⟩ := ih (S.setVm (S.vm.noted f.method.cls y.catchType (.cls c2))) (hW.noted hd hopen (State.rightAt_cls gl)) hcell hrest
        refine ⟨vm', hW', fun Q E d acts => ?_⟩
        rw [List.cons_append, srch_row hcov g0 (hW.classLinks gl) hcell hobj ⟨k0', hk0'⟩ ⟨kt', hkt'⟩, if_neg (by rw [hW.alike.assignable, hno]; decide)]
        exact hq Q E d acts
theorem steps_caught {S tg : State} {g : JFrame} {a : Addr} {hp : Nat} {vm' : Vm} {code : Code} (h : At S g.method c below) (hm : S.vm.method? g.method = some meth) (hc : meth.code = some code) (hf : srch e ((S.setTop g).pushFrame (.throwing a)) g a code.exceptionTable.toList hp vm') (hrest : Steps p.tables e below ((S.setVm vm').setTop { g with pc := hp, stack := [.ref a] }) tg) : Steps p.tables e below ((S.setTop g).pushFrame (.throwing a)) tg := by
  obtain ⟨hgo, hw⟩ := h.throwing a
  refine Steps.head hgo hw ?_
  have hfind : ∀ (Q : Handler → Pre) (E : CtlPost) (d : Bool) (acts : List Action), wp (findHandler g a) Q E e d acts ((S.setTop g).pushFrame (.throwing a)) ↔ Q (.found hp) d acts (((S.setTop g).pushFrame (.throwing a)).setVm vm') := by
    intro Q E d acts
    rw [W.findHandler_eq (meth := meth) (code := code) (by rw [Stand.throwing_vm]; exact hm) hc]
    exact hf Q E d acts
  have hst : ∀ fr : List Frame, (stepThrowing e ((S.setTop g).pushFrame (.throwing a)) a (.java g :: fr)).Is ((((S.setTop g).pushFrame (.throwing a)).setVm vm').setFrames (.java { g with pc := hp, stack := [.ref a] } :: fr)) [] := by
    intro fr
    simp only [stepThrowing, searchFrame, vmDo]
    generalize hr : Sem.go _ e false [] _ = res
    obtain ⟨as, rfl, ha⟩ := Sem.eq_ok_of hr (a := Handler.found hp) (s' := ((S.setTop g).pushFrame (.throwing a)).setVm vm') (acts' := []) (by simp [hfind _ _ _ _])
    exact ⟨rfl, ha⟩
  rw [stepThread_throwing (frames_entered h.top _), (hst _).1]
  obtain ⟨g₀, hg⟩ := Option.isSome_iff_exists.mp h.top
  obtain ⟨fr, hr⟩ := State.topJava?_eq_some.mp hg
  have hr' : (S.setVm vm').frames = .java g₀ :: fr := hr
  rw [State.setTop_of_frames _ hr'] at hrest
  have e1 : ∀ (u : State) (F F' : List Frame), ((u.setFrames F).setVm vm').setFrames F' = (u.setVm vm').setFrames F' := fun u F F' => by
    rw [show (u.setFrames F).setVm vm' = (u.setVm vm').setFrames F from rfl, State.setFrames_setFrames]
  rw [hr, List.tail_cons, State.pushFrame, e1, State.setTop_of_frames _ hr, e1]
  exact hrest
/-- the row of the table that takes it: where, and those ahead of it -/
theorem x_callVC {rm : Room} {a9 : Nat} {As rest : List Value} {y : MethodName} {b : ByteArray} {L idx q a c2 c9 : Nat} {r : Option FieldType} {cr cr9 : vw_C} (pre post : List (Nat × Nat × Nat × Nat)) (x9 : Nat × Nat × Nat × Nat) (C : Cx G p R s m args meth c cc own nL ret hh mn) (hM : CT G l y (ws_ y b L r) rm (.ref (wad G a) :: As) X (.threw (wad G a9)) X') (hS : MV y b L r q) (ho : ob X.1 a c2) (hc : vwCl[c2]? = some cr) (hcy : cr.1 = y.cls) (hl : Cond.methodLink own idx y ∈ lw_all) (hd : decode cc pc = .ok (.invokevirtual idx, 3)) (hq : As.length = q) (hst : st = As.reverse ++ .ref (wad G a) :: rest) (hW : (rest.map fun v => v.category).sum ≤ 8) (hrm : rmOK rm R L k n = true)
    (hh9 : hh = pre ++ x9 :: post) (ho9 : ob X'.1 a9 c9) (hc9 : vwCl[c9]? = some cr9) (hcov : (decide (x9.1 ≤ pc) && decide (pc < x9.2.1)) = true) (h09 : x9.2.2.2 ≠ 0) (hl9 : Cond.classLink own x9.2.2.2 cr9.1 ∈ lw_all) (hpre : ∀ z ∈ pre, (decide (z.1 ≤ pc) && decide (pc < z.2.1)) = false ∨ (z.2.2.2 ≠ 0 ∧ ∃ nm, Cond.classLink own z.2.2.2 nm ∈ lw_all ∧ va_Nc cr9.1 nm s))
    (kk : J G p l e R s m args below meth c nL oc Xf mc ms X' (k + rm.cells) (n + rm.slots) x9.2.2.1 lv [.ref (wad G a9)]) : J G p l e R s m args below meth c nL oc Xf mc ms X k n pc lv st := by
  refine x_thrown C hM hS ho hc hcy hl hd hq hst hW hrm (fun locs ls B hB hL hv XB => ?_)
  have hts := C.2.2.2.2.1
  have e0 := C.2.2.2.2.2.2.2.2.1
  rw [hh9] at e0
  obtain ⟨l1, l2, e1, e2, e3⟩ := List.map_eq_append_iff.mp e0
  obtain ⟨x, l3, rfl, e4, e5⟩ := List.map_eq_cons_iff.mp e3
  obtain ⟨cell, g1, g2, g3, -⟩ := hB.obj ho9 hc9
  obtain ⟨-, hfc, kC, hkC, hkind⟩ := C.2.2.2.2.2.2.1.1.1 c9 _ hc9
  have hpl : e.platform.magicAccessors = ({} : Platform).magicAccessors := by rw [XB.admits.platform]
  have hct : x.catchType = x9.2.2.2 := by rw [← e4]
  obtain ⟨cT, hcT, hcl⟩ := Cond.classLink_spec C.2.2.2.1 (hts _ hl9) e.platform hpl
  cases hfc.symm.trans hcT
  have hasg : s.vm.assignable ((gD G).1 c9) ((gD G).1 c9) = true := va_assign (C := cr9.1) ⟨hfc, kC, hkC, hkind⟩
  obtain ⟨vm', hW', hsr⟩ := srch_all (e := e) (s := s) (f := F0 m pc ls rest) (a := wad G a9) (cell := cell) (by cases hv9 : cell.vm <;> first | rfl | exact absurd hv9 (g3.2 _)) ⟨kC, by rw [g2]; exact hkC⟩ x l3 (by rw [← e4] at hcov; exact hcov) (by rw [hct]; exact h09) (cT := (gD G).1 c9) (by rw [hct]; exact hcl) (by rw [g2]; exact hasg) l1 ((B.setTop (F0 m pc ls rest)).pushFrame (.throwing (wad G a9))) (by rw [Stand.throwing_vm]; exact XB.warmed) (by rw [Stand.throwing_heap]; exact g1) (fun z hz => by
    have hz' : (z.startPc, z.endPc, z.handlerPc, z.catchType) ∈ pre := by rw [← e2]; exact List.mem_map.mpr ⟨z, hz, rfl⟩
    rcases hpre _ hz' with h | ⟨h, nm, hnl, cC, cN, w1, w2, w3⟩
    · exact Or.inl h
    · obtain ⟨cN', hN', hclN⟩ := Cond.classLink_spec C.2.2.2.1 (hts _ hnl) e.platform hpl
      cases w2.symm.trans hN'
      cases hfc.symm.trans w1
      exact Or.inr ⟨h, cN, hclN, by rw [g2]; exact w3⟩)
  obtain ⟨t, a1, b1⟩ := kk B.heap locs ls hB hL hv (B.setVm vm') rfl (XB.noted hW')
  refine ⟨t, ?_, b1⟩
  have hh8 : x.handlerPc = x9.2.2.1 := by rw [← e4]
  exact steps_caught (meth := meth) (code := c) XB.here XB.method' XB.code (by rw [e1]; exact hsr) (by rw [hh8]; exact a1)
/-! calls through objects of a family; casts; methods with handlers -/
/-- what a call of x through the object a comes to: what its class selects, by contract -/
def VC (G : WG) (l : Launch) (x : MethodName) (a : Nat) (As : List Value) (X : XX) (v : Option Value) (X' : XX) (fr lo mcv msv q : Nat) : Prop :=
  ∃ (c2 : Nat) (cr : vw_C) (y : MethodName) (b : ByteArray) (L : Nat) (r : Option FieldType) (owner : String) (rm : Room), ob X.1 a c2 ∧ vwCl[c2]? = some cr ∧ CT G l y (ws_ y b L r) rm (.ref (wad G a) :: As) X (.returned v) X' ∧ Cond.sameMethod x.cls owner x.name x.desc ∈ lw_all ∧ Cond.selects cr.1 x y ∈ lw_all ∧ Cond.instanceMethod y ∈ lw_all ∧ Cond.initialized y.cls ∈ lw_all ∧ Cond.code y b L r ∈ lw_all ∧
    ((Cond.instanceMethod ⟨owner, x.name, x.desc⟩ ∈ lw_all ∧ ∃ b0 L0 r0, Cond.code ⟨owner, x.name, x.desc⟩ b0 L0 r0 ∈ lw_all) ∨ Cond.declares ⟨owner, x.name, x.desc⟩ ∈ lw_tbl) ∧ callOK ⟨owner, x.name, x.desc⟩ q ∧ rm.frames + 1 ≤ fr ∧ 8 + (L + 11) + rm.locals ≤ lo ∧ rm.cells = mcv ∧ rm.slots = msv
theorem x_callX {fr lo mcv msv : Nat} {v : Option Value} {As rest : List Value} {x : MethodName} {idx q a : Nat} (C : Cx G p R s m args meth c cc own nL ret hh mn) (hV : VC G l x a As X v X' fr lo mcv msv q) (hl : Cond.methodLink own idx x ∈ lw_all) (hd : decode cc pc = .ok (.invokevirtual idx, 3)) (hq : As.length = q) (hst : st = As.reverse ++ .ref (wad G a) :: rest) (hW : (rest.map fun v => v.category).sum ≤ 8) (hR1 : fr ≤ R.frames) (hR2 : lo ≤ R.locals) (hR3 : k + mcv ≤ R.cells) (hR4 : n + msv ≤ R.slots) (kk : J G p l e R s m args below meth c nL oc Xf mc ms X' (k + mcv) (n + msv) (pc + 3) lv (v.toList ++ rest)) : J G p l e R s m args below meth c nL oc Xf mc ms X k n pc lv st := by
  obtain ⟨c2, cr, y, b, L, r, owner, rm, ho, hc, hM, h1, h2, h3, h4, h5, h6, hok, g1, g2, rfl, rfl⟩ := hV
  refine j_run (As := As) (rest := rest) (a9 := (.ref (wad G a) :: As : List Value).toArray) (fun H locs ls hR hz => ?_) kk
  have hw : ∀ w ∈ ([.methodLink own idx x, .sameMethod x.cls owner x.name x.desc, .selects cr.1 x y, .instanceMethod y, .initialized y.cls] : List Cond), w ∈ lw_all := by
    intro w hw
    simp only [List.mem_cons, List.not_mem_nil, or_false] at hw
    rcases hw with e | e | e | e | e <;> rw [e] <;> assumption
  have cw : va_CU R s args own cr.1 owner idx x y b L r (ws_ y b L r) rm rm.cells rm.slots q := by
    rcases h6 with ⟨h6, b0, L0, r0, h7⟩ | h6
    · refine va_cwO q C.2.2.2.2.1 (lw_app ?_ (lw_meth h5)) rfl rfl rfl h7 hok ⟨Nat.le_trans g1 hR1, Nat.le_trans g2 hR2⟩
      intro w hw
      simp only [List.mem_cons, List.not_mem_nil, or_false] at hw
      rcases hw with e | e | e | e | e | e <;> rw [e] <;> assumption
    · exact va_cwA q C.2.2.2.2.1 (lw_app hw (lw_meth h5)) rfl rfl rfl (C.nw h6 rfl) hok ⟨Nat.le_trans g1 hR1, Nat.le_trans g2 hR2⟩
  exact va_runU (Ts := lw_all) (C := cr.1) (owner := owner) (x := x) (As := As) (rest := rest) ⟨C.1, C.2.1, C.2.2.1, C.2.2.2.1, C.2.2.2.2.1⟩ hM.met cw ⟨PcX.blind G _ X, hR.recv C ho hc, fun U hU hW => ⟨rfl, by rw [hU]; exact hR, C.2.2.2.2.2.2.1.moved hW⟩⟩ rfl hq hz hst (by show 2 * 0 + _ ≤ 8; omega) hd ⟨hR3, hR4⟩
theorem x_cast {a c2 idx : Nat} {nm : String} {cr : vw_C} (C : Cx G p R s m args meth c cc own nL ret hh mn) (ho : ob X.1 a c2) (hc : vwCl[c2]? = some cr) (hl : Cond.classLink own idx nm ∈ lw_all) (hy : cr.1 = nm ∨ Cond.castable cr.1 nm ∈ lw_tbl) (hd : decode cc pc = .ok (.checkcast idx, 3)) (kk : J G p l e R s m args below meth c nL oc Xf mc ms X k n (pc + 3) lv (.ref (wad G a) :: st)) : J G p l e R s m args below meth c nL oc Xf mc ms X k n pc lv (.ref (wad G a) :: st) := by
  rcases hy with rfl | hy
  · exact x_castS C ho hc hl hd kk
  · exact x_castY C ho hc hl hy hd kk
/-- what is known of a method with handlers, of objects of its own class -/
def MW (y : MethodName) (b : ByteArray) (L : Nat) (r : Option FieldType) (hh : List (Nat × Nat × Nat × Nat)) (q : Nat) : Prop := Cond.instanceMethod y ∈ lw_all ∧ Cond.selects y.cls y y ∈ lw_all ∧ Cond.initialized y.cls ∈ lw_all ∧ Cond.codeWith y b L r hh ∈ lw_all ∧ callOK y q
theorem x_callVW {rm : Room} {v : Option Value} {As rest : List Value} {y : MethodName} {b : ByteArray} {L idx q a c2 : Nat} {r : Option FieldType} {h9 : List (Nat × Nat × Nat × Nat)} {cr : vw_C} (C : Cx G p R s m args meth c cc own nL ret hh mn) (hM : CT G l y (wsW_ y b L r h9) rm (.ref (wad G a) :: As) X (.returned v) X') (hS : MW y b L r h9 q) (ho : ob X.1 a c2) (hc : vwCl[c2]? = some cr) (hcy : cr.1 = y.cls) (hl : Cond.methodLink own idx y ∈ lw_all) (hd : decode cc pc = .ok (.invokevirtual idx, 3)) (hq : As.length = q) (hst : st = As.reverse ++ .ref (wad G a) :: rest) (hW : (rest.map fun v => v.category).sum ≤ 8) (hrm : rmOK rm R L k n = true) (kk : J G p l e R s m args below meth c nL oc Xf mc ms X' (k + rm.cells) (n + rm.slots) (pc + 3) lv (v.toList ++ rest)) : J G p l e R s m args below meth c nL oc Xf mc ms X k n pc lv st := by
  obtain ⟨h1, h2, h3, h4, h5⟩ := hS
  obtain ⟨⟨r1, r1'⟩, r2⟩ := rmOK.u hrm
  refine j_run (As := As) (rest := rest) (a9 := (.ref (wad G a) :: As : List Value).toArray) (fun H locs ls hR hz => ?_) kk
  have hts := C.2.2.2.2.1
  obtain ⟨cellB, hcB, hoB, hclB⟩ := hR.recv C ho hc
  rw [hcy] at hclB
  intro T hT XT
  obtain ⟨mk, methM, hnamed, hmethM, hstM, habM⟩ := Cond.instanceMethod_spec (hts _ h1)
  obtain ⟨m9, methM', cM, hn9, hmethM', -, -, -, -, -, -, hsigM⟩ := Cond.codeWith_spec (hts _ h4)
  cases hnamed.symm.trans hn9
  cases hmethM.symm.trans hmethM'
  obtain ⟨c3, r3, m3, q1, q2, q3, q4, kP, hkP, hkPi⟩ := Cond.selects_spec (hts _ h2)
  cases hclB.symm.trans q1
  cases (State.methodFound?_of_named hnamed ⟨h5.1, h5.2.1⟩).symm.trans q2
  cases hnamed.symm.trans q3
  have hselP : selectMethod e.platform s.vm cellB.cls mk = .method mk := by rw [Launch.admits_selectMethod XT.admits]; exact q4
  have hlen : ∀ sig, parseMethodDescriptor y.desc = some sig → As.length = sig.parameters.length := by
    intro sig hsig
    have h6 := h5.2.2
    rw [hsig] at h6
    rw [hq]
    exact (Option.some.inj h6).symm
  subst hst
  have hK : Back l R p e below s args y 3 8 (PreOf R rm.cells rm.slots (PcX G (.ref (wad G a) :: As) X)) (PostOf (QcX G (.returned v) X') rm.cells rm.slots (fun q => gb G ≤ q)) := va_backW (hh := h9) (bytes := b) (maxL := L) (ret := r) hM.met (PcX.blind G _ X) rfl rfl r1 r1' (fun w hw a' U hW => word_at hW (lw_methW h4 w hw).2 (hts _ (lw_methW h4 w hw).1)) List.mem_cons_self (fun a' U hW => word_at hW (lw_self _ h3).2 (hts _ h3))
  obtain ⟨vm₁, X₁, hstep₁⟩ := XT.invokevirtual C.1 C.2.2.2.1 (hts _ hl) hnamed hmethM hstM hkP hkPi ⟨h5.1, h5.2.1⟩ (a := wad G a) (cell := cellB) (by rw [hT]; exact hcB) (fun z h => by rw [h] at hoB; cases hoB) hselP hmethM habM hkP hkPi (g := F0 m pc ls (As.reverse ++ .ref (wad G a) :: rest)) rfl (argsL := As) (rest := rest) (hlen _ hsigM) rfl (by rw [C.2.1]; exact hd)
  obtain ⟨v', ⟨U', l2, c2, s2⟩, X9, ⟨g', mk', t, L', e1, e2, hq', h1', hL', h2', h3'⟩, hsteps⟩ := hK m meth c ⟨T.setVm vm₁, locs, k, n⟩ (F0 m pc ls rest) (.invokevirtual idx) mk (Value.ref (wad G a) :: As).toArray X₁ rfl (by rw [C.2.2.1]; exact hz) (by rw [C.2.1]; exact hd) (by show 2 * 0 + (rest.map fun v => v.category).sum ≤ 8; omega) (X₁.named hnamed) ⟨r2.1, r2.2, rfl, by show RelX G X T.heap; rw [hT]; exact hR, C.2.2.2.2.2.2.1.moved X₁.warmed⟩
  dsimp only [Pt.U, Pt.locs, Pt.cells, Pt.slots] at X9 e1 e2 h1' h2' h3' hsteps
  subst h1'; subst h2'; subst h3'
  exact ⟨v', (T.setVm vm₁).calling g' mk' (Value.ref (wad G a) :: As).toArray, t, U', L', hT, X9, hL', e1, e2, hq', fun target h => hstep₁ _ fun acts => by rw [doInvoke_state]; exact hsteps.trans h⟩
/-- super.m(), where the superclass inherits m from its own superclass -/
theorem x_callS2 {rm : Room} {v : Option Value} {As rest : List Value} {x y : MethodName} {b : ByteArray} {L idx q a c2 : Nat} {r : Option FieldType} {cr : vw_C} (C : Cx G p R s m args meth c cc own nL ret hh mn) (hM : CT G l y (ws_ y b L r) rm (.ref (wad G a) :: As) X (.returned v) X') (ho : ob X.1 a c2) (hc : vwCl[c2]? = some cr) (hxy : x.name = y.name ∧ x.desc = y.desc) (hl : Cond.methodLink own idx x ∈ lw_all) (h1 : Cond.sameMethod x.cls y.cls x.name x.desc ∈ lw_all) (h2 : Cond.superclass own x.cls ∈ lw_all) (h6 : Cond.superclass x.cls y.cls ∈ lw_all) (h3 : Cond.instanceMethod y ∈ lw_all) (h4 : Cond.initialized y.cls ∈ lw_all) (h5 : Cond.code y b L r ∈ lw_all) (hni : y.name ≠ "<init>") (hok : callOK y q) (hd : decode cc pc = .ok (.invokespecial idx, 3)) (hq : As.length = q) (hst : st = As.reverse ++ .ref (wad G a) :: rest) (hW : (rest.map fun v => v.category).sum ≤ 8) (hrm : rmOK rm R L k n = true) (kk : J G p l e R s m args below meth c nL oc Xf mc ms X' (k + rm.cells) (n + rm.slots) (pc + 3) lv (v.toList ++ rest)) : J G p l e R s m args below meth c nL oc Xf mc ms X k n pc lv st := by
  obtain ⟨⟨r1, r1'⟩, r2⟩ := rmOK.u hrm
  refine j_run (As := As) (rest := rest) (a9 := (.ref (wad G a) :: As : List Value).toArray) (fun H locs ls hR hz => ?_) kk
  have hts := C.2.2.2.2.1
  obtain ⟨cellB, hcB, hoB, hclB⟩ := hR.recv C ho hc
  obtain ⟨-, hfc, kB, hkB, -⟩ := C.2.2.2.2.2.2.1.1.1 c2 _ hc
  have e0 : (gD G).1 c2 = cellB.cls := Option.some.inj (hfc.symm.trans hclB)
  rw [e0] at hkB
  intro T hT XT
  obtain ⟨xc, xn, xd⟩ := x
  obtain ⟨yc, yn, yd⟩ := y
  obtain ⟨e1, e2⟩ := hxy
  have e1 : xn = yn := e1
  have e2 : xd = yd := e2
  subst e1; subst e2
  obtain ⟨mk, methM, hnamed, hmethM, hstM, habM⟩ := Cond.instanceMethod_spec (hts _ h3)
  obtain ⟨methM', cM, hmethM', -, -, -, -, -, -, hsigM⟩ := Cond.code_spec hnamed (hts _ h5)
  cases hmethM.symm.trans hmethM'
  obtain ⟨ps, dk, kp, hps, hdk, hkp, hsuper, -, -, hnid⟩ := Cond.superclass_spec C.2.2.2.1 (hts _ h2)
  obtain ⟨ps2, dk2, kp2, hps2, hdk2, hkp2, hsuper2, -, -, -⟩ := Cond.superclass_spec hps (hts _ h6)
  have hpm : ps2 = mk.cls := Option.some.inj (hps2.symm.trans (findClass_of_methodNamed hnamed))
  have hsub : s.vm.isSubclass ps mk.cls = true := by
    rw [← hpm]
    obtain ⟨z, hz9⟩ : ∃ z, s.vm.classes.size = z + 1 := ⟨s.vm.classes.size - 1, by have := (Array.getElem?_eq_some_iff.mp hdk2).1; omega⟩
    simp [Vm.isSubclass, Vm.isSubclassAux, hdk2, hsuper2, hz9]
  have hlen : ∀ sig, parseMethodDescriptor xd = some sig → As.length = sig.parameters.length := by
    intro sig hsig
    have h6 := hok.2.2
    rw [show (⟨yc, xn, xd⟩ : MethodName).desc = xd from rfl, hsig] at h6
    rw [hq]
    exact (Option.some.inj h6).symm
  subst hst
  have hK : Back l R p e below s args ⟨yc, xn, xd⟩ 3 8 (PreOf R rm.cells rm.slots (PcX G (.ref (wad G a) :: As) X)) (PostOf (QcX G (.returned v) X') rm.cells rm.slots (fun q => gb G ≤ q)) := back_of (bytes := b) (maxL := L) (ret := r) hM.met (PcX.blind G _ X) rfl rfl r1 r1' (fun w hw a' U hW => word_at hW (lw_meth h5 w hw).2 (hts _ (lw_meth h5 w hw).1)) List.mem_cons_self (fun a' U hW => word_at hW (lw_self _ h4).2 (hts _ h4))
  obtain ⟨vm₁, X₁, hstep₁⟩ := XT.invokespecialUp C.1 C.2.2.2.1 (hts _ hl) (hts _ h1) hnamed hmethM hstM habM hni hdk hnid hps hsuper hsub (a := wad G a) (cell := cellB) (by rw [hT]; exact hcB) (fun z h => by rw [h] at hoB; cases hoB) hkB (g := F0 m pc ls (As.reverse ++ .ref (wad G a) :: rest)) rfl (argsL := As) (rest := rest) (hlen _ hsigM) rfl (by rw [C.2.1]; exact hd)
  obtain ⟨v', ⟨U', l2, c2, s2⟩, X9, ⟨g', mk', t, L', e1, e2, hq', h1', hL', h2', h3'⟩, hsteps⟩ := hK m meth c ⟨T.setVm vm₁, locs, k, n⟩ (F0 m pc ls rest) (.invokespecial idx) mk (Value.ref (wad G a) :: As).toArray X₁ rfl (by rw [C.2.2.1]; exact hz) (by rw [C.2.1]; exact hd) (by show 2 * 0 + (rest.map fun v => v.category).sum ≤ 8; omega) (X₁.named hnamed) ⟨r2.1, r2.2, rfl, by show RelX G X T.heap; rw [hT]; exact hR, C.2.2.2.2.2.2.1.moved X₁.warmed⟩
  dsimp only [Pt.U, Pt.locs, Pt.cells, Pt.slots] at X9 e1 e2 h1' h2' h3' hsteps
  subst h1'; subst h2'; subst h3'
  exact ⟨v', (T.setVm vm₁).calling g' mk' (Value.ref (wad G a) :: As).toArray, t, U', L', hT, X9, hL', e1, e2, hq', fun target h => hstep₁ _ (by rw [doInvoke_state]; exact hsteps.trans h)⟩
theorem j_kn {k' n' : Nat} (h1 : k = k') (h2 : n = n') (kk : J G p l e R s m args below meth c nL oc Xf mc ms X k' n' pc lv st) : J G p l e R s m args below meth c nL oc Xf mc ms X k n pc lv st := by rw [h1, h2]; exact kk
theorem j_stk {st' : List Value} (h : st = st') (kk : J G p l e R s m args below meth c nL oc Xf mc ms X k n pc lv st') : J G p l e R s m args below meth c nL oc Xf mc ms X k n pc lv st := by rw [h]; exact kk
theorem j_wid {k' n' : Nat} (h1 : k ≤ k') (h2 : n ≤ n') (kk : J G p l e R s m args below meth c nL oc Xf mc ms X k' n' pc lv st) : J G p l e R s m args below meth c nL oc Xf mc ms X k n pc lv st := fun H locs ls hR hL hv => W.widen h1 h2 (kk H locs ls hR hL hv)
theorem ra1 {a b z : Nat} (h : a ≤ b) (h2 : b + 1 ≤ z) : (b - a) + 1 ≤ z - a := by omega
theorem ra2 {a b z n : Nat} (h : a ≤ b) (h2 : b + 1 ≤ z) (hn : n ≤ 200) : 200 * (b - a) + n ≤ 200 * (z - a) := by omega
theorem rw1 {a b : Nat} (h : a ≤ b) : (b - a) + 1 ≤ b + 1 - a := by omega
theorem rw2 {a b n : Nat} (h : a ≤ b) (hn : n ≤ 200) : 200 * (b - a) + n ≤ 200 * (b + 1 - a) := by omega
theorem rm1 {a b c z : Nat} (h0 : a ≤ b) (h1 : b ≤ c) (h2 : c ≤ z) : (b - a) + (c - b) ≤ z - a := by omega
theorem rm2 {a b c z : Nat} (h0 : a ≤ b) (h1 : b ≤ c) (h2 : c ≤ z) : 200 * (b - a) + 200 * (c - b) ≤ 200 * (z - a) := by omega
theorem rk1 {a b c : Nat} (h0 : a ≤ b) (h1 : b ≤ c) : (b - a) + (c - b) = c - a := by omega
theorem rk2 {a b c : Nat} (h0 : a ≤ b) (h1 : b ≤ c) : 200 * (b - a) + 200 * (c - b) = 200 * (c - a) := by omega
theorem rz1 {a b z : Nat} (h0 : a ≤ b) (h1 : b ≤ z) : (b - a) + 0 ≤ z - a := by omega
theorem rz2 {a b z : Nat} (h0 : a ≤ b) (h1 : b ≤ z) : 200 * (b - a) + 0 ≤ 200 * (z - a) := by omega
theorem rc1 {a b z : Nat} (h0 : a ≤ b) (h1 : b ≤ z) : (b - a) ≤ z - a := by omega
theorem rc2 {a b z : Nat} (h0 : a ≤ b) (h1 : b ≤ z) : 200 * (b - a) ≤ 200 * (z - a) := by omega
theorem rb2 (a : Nat) : 0 = 200 * (a - a) := by omega
abbrev rmA (f lo d : Nat) : Room := { frames := f, cells := d, slots := 200 * d, locals := lo }
/-- what comes of the rest holds at least as many cells -/
def omn3 {α : Type} (S : SH) (x : Option (α × SH × II)) : Option (α × SH × II) := x.bind fun z => if S.1 ≤ z.2.1.1 then some z else none
def omn2 (S : SH) (x : Option (SH × II)) : Option (SH × II) := x.bind fun z => if S.1 ≤ z.1.1 then some z else none
theorem omn3_some {α : Type} {S : SH} {x : Option (α × SH × II)} {z : α × SH × II} (h : omn3 S x = some z) : S.1 ≤ z.2.1.1 ∧ x = some z := by
  obtain ⟨z', h1, h2⟩ := ob_some h
  split at h2
  · cases h2; exact ⟨by assumption, h1⟩
  · cases h2
theorem omn2_some {S : SH} {x : Option (SH × II)} {z : SH × II} (h : omn2 S x = some z) : S.1 ≤ z.1.1 ∧ x = some z := by
  obtain ⟨z', h1, h2⟩ := ob_some h
  split at h2
  · cases h2; exact ⟨by assumption, h1⟩
  · cases h2
theorem x_acmp_eq {rx ry : Option Nat} {off : Int} (tgt : Nat) (C : Cx G p R s m args meth c cc own nL ret hh mn) (hinj : ∀ a b : Nat, wad G a = wad G b → a = b) (hd : decode cc pc = .ok (.if_acmp .eq off, 3)) (ht : (pc : Int) + off = (tgt : Int)) (kt : rx = ry → J G p l e R s m args below meth c nL oc Xf mc ms X k n tgt lv st) (kf : ¬ rx = ry → J G p l e R s m args below meth c nL oc Xf mc ms X k n (pc + 3) lv st) : J G p l e R s m args below meth c nL oc Xf mc ms X k n pc lv (va_rf (ry.map (wad G)) :: va_rf (rx.map (wad G)) :: st) := by
  intro H locs ls hR hL hv
  have e : rx.map (wad G) = ry.map (wad G) ↔ rx = ry := by
    cases rx <;> cases ry <;> simp
    exact ⟨fun h => hinj _ _ h, fun h => by rw [h]⟩
  exact lv_acmp_eq C.1 C.2.1 hd ht (fun h => kt (e.mp h) H locs ls hR hL hv) (fun h => kf (fun g => h (e.mpr g)) H locs ls hR hL hv)
theorem x_bret {v : Int32} (C : Cx G p R s m args meth c cc own nL (some .byte) hh mn) (hd : decode cc pc = .ok (.ireturn, 1)) (hk : k ≤ mc) (hn : n ≤ ms) (hb : v.toInt8.toInt32 = v) : J G p l e R s m args below meth c nL (.returned (some (.int v))) X mc ms X k n pc lv [.int v] := by
  intro H locs ls hR hL hv
  refine W.widen hk hn (W.mono (fun t h => qx_of (args := args) h) ?_)
  refine W.zret C.1 C.2.1 C.2.2.2.2.2.2.2.1 ?_ (fun t ht hW => ⟨rfl, by rw [ht]; exact hR⟩) hL hd C.2.2.2.2.2.1
  rw [← hb]
  exact pk_nb v
/-- a length that may be -/
def onl {β : Type} (i : Int32) (f : Nat → Option β) : Option β := if i < 0 ∨ 200 < i.toNatClampNeg then none else f i.toNatClampNeg
theorem onl_ex {β : Type} {i : Int32} {f : Nat → Option β} {r : β} (h : onl i f = some r) : ∃ q : Nat, q = i.toNatClampNeg ∧ (¬ i < 0 ∧ q ≤ 200) ∧ f q = some r := by
  unfold onl at h
  split at h
  · cases h
  · rename_i g
    exact ⟨_, rfl, ⟨fun a => g (Or.inl a), Nat.not_lt.mp (fun a => g (Or.inr a))⟩, h⟩
theorem x_aload_n {q : Fin 4} {i : Nat} {o : Option Nat} (C : Cx G p R s m args meth c cc own nL ret hh mn) (hd : decode cc pc = .ok (.aload_n q, 1)) (hi : (q : Nat) = i) (hx : lget lv i = some (va_rf (o.map (wad G)))) (kk : J G p l e R s m args below meth c nL oc Xf mc ms X k n (pc + 1) lv (va_rf (o.map (wad G)) :: st)) : J G p l e R s m args below meth c nL oc Xf mc ms X k n pc lv st := by
  intro H locs ls hR hL hv
  cases o with
  | none => exact lv_aload_nN C.1 C.2.1 hd hi (hv.2.2 i _ hx) (kk H locs ls hR hL hv)
  | some t => exact lv_aload_n C.1 C.2.1 hd hi (hv.2.2 i _ hx) (kk H locs ls hR hL hv)
theorem x_aload {i : Nat} {o : Option Nat} (C : Cx G p R s m args meth c cc own nL ret hh mn) (hd : decode cc pc = .ok (.aload i, 2)) (hx : lget lv i = some (va_rf (o.map (wad G)))) (kk : J G p l e R s m args below meth c nL oc Xf mc ms X k n (pc + 2) lv (va_rf (o.map (wad G)) :: st)) : J G p l e R s m args below meth c nL oc Xf mc ms X k n pc lv st := by
  intro H locs ls hR hL hv
  cases o with
  | none => exact lv_aloadN C.1 C.2.1 hd (hv.2.2 i _ hx) (kk H locs ls hR hL hv)
  | some t => exact lv_aload C.1 C.2.1 hd (hv.2.2 i _ hx) (kk H locs ls hR hL hv)
theorem oex_l {τ β : Type} {v : τ} {f : τ → Option β} {g : Nat → Option β} {r : β} (h : oex (Sum.inl v) f g = some r) : f v = some r := h
theorem oex_r {τ β : Type} {w : Nat} {f : τ → Option β} {g : Nat → Option β} {r : β} (h : oex (Sum.inr w) f g = some r) : g w = some r := h
theorem KE.stat {sh : SH} {I : II} {H : Heap} {U : State} {C n d : String} {v : Value} (hR : RelX G (sh, I) H) (hZ : va_Z C n d v (fun q => gb G ≤ q) U G.2.2.2.2.1) : va_Z C n d v (fun q => gb G ≤ q) U H := hZ.kept fun a _ ha => hR.2.1 a (Nat.not_le.mp ha)
theorem x_getsR {idx : Nat} {cn nm ds : String} (j : Nat) (C : Cx G p R s m args meth c cc own nL ret hh mn) (hj : sttT[j]? = some (cn, nm, ds)) (hl : Cond.fieldLink own idx cn nm ds ∈ lw_all) (hd : decode cc pc = .ok (.getstatic idx, 3)) (kk : J G p l e R s m args below meth c nL oc Xf mc ms (sh, I) k n (pc + 3) lv (va_rf ((sh.2.2 exS j).map (wad G)) :: st)) : J G p l e R s m args below meth c nL oc Xf mc ms (sh, I) k n pc lv st := by
  intro H locs ls hR hL hv
  have k9 := kk H locs ls hR hL hv
  have e9 : sh.2.2 exS j = G.2.2.2.2.2 j := hR.2.2.1.2 j
  rw [e9] at k9
  obtain ⟨cf, kf, fi, f, a, cell, h1, h2, h3, h4, h5, h6, h7, h8⟩ := KE.stat hR (C.2.2.2.2.2.2.1.2.2.2.2.2.2.2 j _ hj)
  exact W.gets C.1 C.2.1 C.2.2.2.1 (C.2.2.2.2.1 _ hl) h1 h2 h3 h4 h5 (fun e => by rw [e] at h6; cases h6) h7 rfl hd k9
theorem x_getsC {idx : Nat} (C : Cx G p R s m args meth c cc own nL ret hh mn) (hl : Cond.fieldLink own idx "java/lang/String" "COMPACT_STRINGS" "Z" ∈ lw_all) (hd : decode cc pc = .ok (.getstatic idx, 3)) (kk : J G p l e R s m args below meth c nL oc Xf mc ms (sh, I) k n (pc + 3) lv (.int (nI 1) :: st)) : J G p l e R s m args below meth c nL oc Xf mc ms (sh, I) k n pc lv st := by
  intro H locs ls hR hL hv
  obtain ⟨cf, kf, fi, f, a, cell, h1, h2, h3, h4, h5, h6, h7, h8⟩ := KE.stat hR C.2.2.2.2.2.2.1.2.2.2.2.2.2.1
  exact W.gets C.1 C.2.1 C.2.2.2.1 (C.2.2.2.2.1 _ hl) h1 h2 h3 h4 h5 (fun e => by rw [e] at h6; cases h6) h7 rfl hd (kk H locs ls hR hL hv)
theorem x_ldcS {idx : Nat} {tx : String} (j : Nat) (C : Cx G p R s m args meth c cc own nL ret hh mn) (hj : strT[j]? = some (own, idx, tx)) (hd : decode cc pc = .ok (.ldc idx, 2)) (kk : J G p l e R s m args below meth c nL oc Xf mc ms X k n (pc + 2) lv (.ref (wad G (exA + j)) :: st)) : J G p l e R s m args below meth c nL oc Xf mc ms X k n pc lv st := by
  intro H locs ls hR hL hv
  exact va_ldcS C.1 C.2.1 C.2.2.2.1 (C.2.2.2.2.2.2.1.2.2.2.2.2.1 j _ hj) hd (kk H locs ls hR hL hv)
theorem x_anew {t q idx : Nat} {i : Int32} {cn : String} (C : Cx G p R s m args meth c cc own nL ret hh mn) (ht : (t = 200 ∧ cn = "java/lang/Object") ∨ (t = 201 ∧ cn = "NineDemands$Shelf")) (h1 : Cond.classLink own idx cn ∈ lw_all) (h2 : Cond.arrayOver (.object cn) ∈ lw_tbl) (hi : ¬ i < 0) (hq : i.toNatClampNeg = q) (hq2 : q ≤ 100000) (hlt : sh.1 < exA) (hk : k + 1 ≤ R.cells) (hn : n + q ≤ R.slots) (hd : decode cc pc = .ok (.anewarray idx, 3)) (kk : J G p l e R s m args below meth c nL oc Xf mc ms (newS sh t q, newI sh I) (k + 1) (n + q) (pc + 3) lv (.ref (wad G sh.1) :: st)) : J G p l e R s m args below meth c nL oc Xf mc ms (sh, I) k n pc lv (.int i :: st) := by
  intro H locs ls hR hL hv
  have e0 : H.size = gb G + sh.1 := hR.1.1
  refine W.anew C.1 C.2.1 C.2.2.2.1 (C.2.2.2.2.1 _ h1) (C.2.2.2.2.2.2.1.2.2.2.2.1 cn h2).use (g := F0 m pc ls (.int i :: st)) rfl hd rfl hi (by rw [hq]; omega) hk (by rw [hq]; exact hn) fun cA kA comp hA hkA hkd hcomp => ?_
  have ew := wad_lt (G := G) hlt
  have e9 : (newS sh t q).2.1 sh.1 = (t, q) := if_pos rfl
  have e7 : (newS sh t q).2.2 sh.1 = fun _ => none := if_pos rfl
  have hcA : cA = gA G t ∧ 200 ≤ t := by
    rcases ht with ⟨rfl, rfl⟩ | ⟨rfl, rfl⟩
    · obtain ⟨_, _, _, _, _, this⟩ : va_RA s (gA G 200) (.object "java/lang/Object") := (C.2.2.2.2.2.2.1.1.2 3 _ rfl).2
      exact ⟨Option.some.inj (hA.symm.trans this), by decide⟩
    · obtain ⟨_, _, _, _, _, this⟩ : va_RA s (gA G 201) (.object "NineDemands$Shelf") := (C.2.2.2.2.2.2.1.1.2 4 _ rfl).2
      exact ⟨Option.some.inj (hA.symm.trans this), by decide⟩
  obtain ⟨rfl, g1⟩ := hcA
  rw [ew] at kk
  have hs : H.size = gb G + sh.1 := e0
  rw [hq, hs]
  refine kk _ locs ls (hR.grow hlt (Array.size_push _) (fun x hx => by rw [Array.getElem?_push, if_neg (Nat.ne_of_lt hx)]) ⟨fun h => ?_, fun h h' => ?_, fun h => ?_⟩) hL hv
  · exact absurd (show ((newS sh t q).2.1 sh.1).1 < 100 from h) (by rw [e9]; show ¬ (t < 100); omega)
  · exact absurd (show ((newS sh t q).2.1 sh.1).1 < 200 from h') (by rw [e9]; show ¬ (t < 200); omega)
  · show _ = some (arrV (gA G ((newS sh t q).2.1 sh.1).1) ((newS sh t q).2.1 sh.1).2 (fun j => va_rf (((newS sh t q).2.2 sh.1 j).map (wad G))))
    rw [e9, e7, ew, ← hs, Array.getElem?_push_size]
    congr 1
    unfold arrV
    congr 1
    apply Array.ext
    · simp
    · intro i h1 h2
      simp [va_rf]
theorem j_run5 {rm : Room} {v : Option Value} {X' : XX} {As rest : List Value} {a9 : Array Value} (hr : ∀ H locs (ls : Array Slot), RelX G X H → ls.size = nL → va_Run5 p l e R s m args below meth c H locs k n rm.cells rm.slots (F0 m pc ls st) rest (QcX G (.returned v) X' a9) (fun q => gb G ≤ q)) (kk : J G p l e R s m args below meth c nL oc Xf mc ms X' (k + rm.cells) (n + rm.slots) (pc + 5) lv (v.toList ++ rest)) : J G p l e R s m args below meth c nL oc Xf mc ms X k n pc lv st := by
  intro H locs ls hR hL hv T hT X9
  obtain ⟨v', st₀, t, T', L, h0, X', hL', e1, e2, ⟨hv', hq⟩, stp⟩ := hr H locs ls hR hv.1 T hT X9
  cases hv'
  obtain ⟨t2, a1, b1⟩ := kk T'.heap (locs ++ L) ls (by rw [e1]; exact hq) (t_lL hL hL') hv T' rfl X'
  exact ⟨t2, stp t2 a1, b1⟩
/-- a call through an interface -/
def VF (G : WG) (l : Launch) (x : MethodName) (a : Nat) (As : List Value) (X : XX) (v : Option Value) (X' : XX) (fr lo mcv msv q : Nat) : Prop :=
  ∃ (c2 : Nat) (cr : vw_C) (y : MethodName) (b : ByteArray) (L : Nat) (r : Option FieldType) (rm : Room), ob X.1 a c2 ∧ vwCl[c2]? = some cr ∧ CT G l y (ws_ y b L r) rm (.ref (wad G a) :: As) X (.returned v) X' ∧ Cond.selects cr.1 x y ∈ lw_all ∧ Cond.instanceMethod y ∈ lw_all ∧ Cond.initialized y.cls ∈ lw_all ∧ Cond.code y b L r ∈ lw_all ∧
    Cond.declares x ∈ lw_tbl ∧ Cond.interfaceMethod x.cls x.cls x.name x.desc ∈ lw_tbl ∧ Cond.publicMethod y ∈ lw_tbl ∧ Cond.unhidden cr.1 x.name x.desc ∈ lw_tbl ∧ Cond.castable cr.1 x.cls ∈ lw_tbl ∧ callOK x q ∧ rm.frames + 1 ≤ fr ∧ 8 + (L + 11) + rm.locals ≤ lo ∧ rm.cells = mcv ∧ rm.slots = msv
theorem x_callF {fr lo mcv msv : Nat} {v : Option Value} {As rest : List Value} {x : MethodName} {idx q a ct : Nat} (C : Cx G p R s m args meth c cc own nL ret hh mn) (hV : VF G l x a As X v X' fr lo mcv msv q) (hl : Cond.methodLink own idx x ∈ lw_all) (hd : decode cc pc = .ok (.invokeinterface idx ct, 5)) (hq : As.length = q) (hst : st = As.reverse ++ .ref (wad G a) :: rest) (hW : (rest.map fun v => v.category).sum ≤ 8) (hR1 : fr ≤ R.frames) (hR2 : lo ≤ R.locals) (hR3 : k + mcv ≤ R.cells) (hR4 : n + msv ≤ R.slots) (kk : J G p l e R s m args below meth c nL oc Xf mc ms X' (k + mcv) (n + msv) (pc + 5) lv (v.toList ++ rest)) : J G p l e R s m args below meth c nL oc Xf mc ms X k n pc lv st := by
  obtain ⟨c2, cr, y, b, L, r, rm, ho, hc, hM, h2, h3, h4, h5, f1, f2, f3, f4, f5, hok, g1, g2, rfl, rfl⟩ := hV
  refine j_run5 (As := As) (rest := rest) (a9 := (.ref (wad G a) :: As : List Value).toArray) (fun H locs ls hR hz => ?_) kk
  have hF := C.2.2.2.2.2.2.1.2.2.2.1 cr.1 x y f1 f2 f3 f4 f5 ⟨hok.1, hok.2.1⟩
  have cw : va_CI R s args own cr.1 idx x y b L r (ws_ y b L r) rm rm.cells rm.slots q := by
    refine va_cwF q C.2.2.2.2.1 (lw_app ?_ (lw_meth h5)) rfl rfl rfl hF hok ⟨Nat.le_trans g1 hR1, Nat.le_trans g2 hR2⟩
    intro w hw
    simp only [List.mem_cons, List.not_mem_nil, or_false] at hw
    rcases hw with e | e | e | e <;> rw [e] <;> assumption
  obtain ⟨cellB, hcB, hoB, hclB⟩ := hR.recv C ho hc
  exact va_runF (Ts := lw_all) (C := cr.1) (x := x) (As := As) (rest := rest) (C.2.2.2.2.2.2.1.1.1 c2 _ hc).2 ⟨C.1, C.2.1, C.2.2.1, C.2.2.2.1, C.2.2.2.2.1⟩ hM.met cw ⟨PcX.blind G _ X, hR.recv C ho hc, fun U hU hW => ⟨rfl, by rw [hU]; exact hR, C.2.2.2.2.2.2.1.moved hW⟩⟩ rfl hq hz hst (by show 2 * 0 + _ ≤ 8; omega) hd ⟨hR3, hR4⟩
theorem ke_nc (C : Cx G p R s m args meth c cc own nL ret hh mn) : va_Nc "NineDemands$Finding" "NineDemands$Fault" s := C.2.2.2.2.2.2.1.2.2.1
/-- a row of ints replaced -/
def upr (I : II) (a : Nat) (f : Nat → Int32) : II := fun x => if x = a then f else I x
theorem x_copy {t n0 n1 a0 a idx : Nat} {sp dp w : Int32} {ty : FieldType} (C : Cx G p R s m args meth c cc own nL ret hh mn) (ht : (t = 100 ∧ ty = .int) ∨ (t = 101 ∧ ty = .byte)) (hl : Cond.methodLink own idx arraycopyName ∈ lw_all) (hnat : Cond.native arraycopyName ∈ lw_all) (hstat : Cond.static arraycopyName ∈ lw_all) (hini : Cond.initialized "java/lang/System" ∈ lw_all) (h0 : ar sh a0 t n0) (hA : arw sh a t n1)
    (hz : (¬ sp < 0 ∧ ¬ dp < 0 ∧ ¬ w < 0) ∧ sp.toNatClampNeg + w.toNatClampNeg ≤ n0 ∧ dp.toNatClampNeg + w.toNatClampNeg ≤ n1) (hfit : t = 100 ∨ ∀ i, i < w.toNatClampNeg → (I a0 (sp.toNatClampNeg + i)).toInt8.toInt32 = I a0 (sp.toNatClampNeg + i)) (hframes : 1 ≤ R.frames) (hlocals : (st.map fun v => v.category).sum + (nativeFrameWords "java/lang/System" "arraycopy" 5 + 11) ≤ R.locals) (hd : decode cc pc = .ok (.invokestatic idx, 3))
    (kk : J G p l e R s m args below meth c nL oc Xf mc ms (sh, upr I a (va_cpy (I a0) (I a) sp.toNatClampNeg dp.toNatClampNeg w.toNatClampNeg)) k n (pc + 3) lv st) : J G p l e R s m args below meth c nL oc Xf mc ms (sh, I) k n pc lv (.int w :: .int dp :: .ref (wad G a) :: .int sp :: .ref (wad G a0) :: st) := by
  have nn : ∀ z : Int32, ¬ z < 0 → z.toInt = (z.toNatClampNeg : Int) := by
    intro z hz
    have hz0 : (0 : Int) ≤ z.toInt := by
      have := Int32.not_lt.mp hz
      simpa using Int32.le_iff_toInt_le.mp this
    show z.toInt = ((z.toInt.toNat : Nat) : Int)
    omega
  intro H locs ls hR hL hv T hT X9
  obtain ⟨⟨h1, h2, h3⟩, h4, h5⟩ := hz
  have ht' : 100 ≤ t ∧ t < 200 := by rcases ht with ⟨rfl, -⟩ | ⟨rfl, -⟩ <;> decide
  obtain ⟨cell0, hc0, z1, z2, z3, z4⟩ := hR.arrI h0 ht'.1 ht'.2
  have hc1 : H[wad G a]? = some (arrV (gA G t) n1 (fun j => .int (I a j))) := hR.arrIS hA ht'.1 ht'.2
  have hK : ArrOfT s (gA G t) ty ∧ refKind ty = false := by
    rcases ht with ⟨rfl, rfl⟩ | ⟨rfl, rfl⟩
    · exact ⟨(C.2.2.2.2.2.2.1.1.2 0 _ rfl).1, rfl⟩
    · exact ⟨(C.2.2.2.2.2.2.1.1.2 1 _ rfl).1, rfl⟩
  obtain ⟨hK, hprim⟩ := hK
  have hft : ∀ i, i < w.toNatClampNeg → fits ty (.int (I a0 (sp.toNatClampNeg + i))) = true := by
    intro i hi
    rcases ht with ⟨rfl, rfl⟩ | ⟨rfl, rfl⟩
    · rfl
    · rcases hfit with h | h
      · exact absurd h (by decide)
      · rw [← h i hi]
        exact pk_fb _
  obtain ⟨-, k0, hk0, cm0, hkk0⟩ := hK n0 (fun j => .int (I a0 j))
  obtain ⟨-, k1, hk1, cm1, hkk1⟩ := hK n1 (fun j => .int (I a j))
  have hts := C.2.2.2.2.1
  obtain ⟨vm', X', step⟩ := X9.arraycopy C.1 C.2.2.2.1 (hts _ hl) (hts _ hnat) (hts _ hstat) (hts _ hini) (src := wad G a0) (dst := wad G a) (cs := cell0) (cd := arrV (gA G t) n1 (fun j => .int (I a j))) (srcPos := sp) (destPos := dp) (n := w) (by rw [hT]; exact hc0) (by rw [hT]; exact hc1)
    (fun q h => z2.2 q h) (fun _ h => by cases h) z2.1 (fun h => by cases h) (by rw [z1]; exact hk0) hk1 hkk0 hkk1 (by simp [hprim]) h1 h2 h3
    (by rw [nn sp h1, nn w h3]; have := z3.1; omega)
    (by rw [nn dp h2, nn w h3, arrV_size]; omega)
    (fun vm₁ _ i hi => by
      have e : cell0.slots.getD (sp.toNatClampNeg + i) .null = .int (I a0 (sp.toNatClampNeg + i)) := by
        rw [Array.getD_eq_getD_getElem?, z4 _ (by omega)]
        rfl
      rw [e]
      exact ⟨hft i hi, trivial⟩)
    (g := F0 m pc ls (.int w :: .int dp :: .ref (wad G a) :: .int sp :: .ref (wad G a0) :: st)) rfl (by rw [C.2.2.1]; exact hv.1) (rest := st) rfl (by rw [C.2.1]; exact hd) hframes (by show 2 * 0 + _ + _ ≤ _; omega)
  have e1 : copied cell0 (arrV (gA G t) n1 (fun j => .int (I a j))) sp dp w = arrV (gA G t) n1 (fun j => .int (va_cpy (I a0) (I a) sp.toNatClampNeg dp.toNatClampNeg w.toNatClampNeg j)) := va_copiedX (fun z => .int z) cell0 (gA G t) (I a0) (I a) z4 h4
  rw [e1] at X' step
  have hlt : wad G a < H.size := (Array.getElem?_eq_some_iff.mp hc1).1
  have ew : wad G a = gb G + a := hR.ad hA.1
  have hRel : RelX G (sh, upr I a (va_cpy (I a0) (I a) sp.toNatClampNeg dp.toNatClampNeg w.toNatClampNeg)) (H.setIfInBounds (wad G a) (arrV (gA G t) n1 (fun j => .int (va_cpy (I a0) (I a) sp.toNatClampNeg dp.toNatClampNeg w.toNatClampNeg j)))) := by
    refine RelX.upd hR hA.1 rfl (fun x hx => ⟨rfl, rfl, if_neg hx⟩) (by simp) (fun q hq => by simp [Array.getElem?_setIfInBounds, Ne.symm hq]) ⟨fun h => ?_, fun h h' => ?_, fun h => ?_⟩
    · exact absurd (show (sh.2.1 a).1 < 100 from h) (by rw [hA.2]; exact Nat.not_lt.mpr ht'.1)
    · show _ = some (arrV (gA G (sh.2.1 a).1) (sh.2.1 a).2 (fun j => .int (upr I a (va_cpy (I a0) (I a) sp.toNatClampNeg dp.toNatClampNeg w.toNatClampNeg) a j)))
      have e7 : upr I a (va_cpy (I a0) (I a) sp.toNatClampNeg dp.toNatClampNeg w.toNatClampNeg) a = va_cpy (I a0) (I a) sp.toNatClampNeg dp.toNatClampNeg w.toNatClampNeg := if_pos rfl
      rw [hA.2, e7]
      simp [Array.getElem?_setIfInBounds, hlt]
    · exact absurd (show 200 ≤ (sh.2.1 a).1 from h) (by rw [hA.2]; exact Nat.not_le.mpr ht'.2)
  obtain ⟨t2, a1, b1⟩ := kk _ _ ls hRel (fun q hq => by
    rcases List.mem_append.mp hq with h | h
    · exact hL q h
    · obtain ⟨z, -, hz⟩ := List.mem_map.mp h
      rw [← hz]
      show gb G ≤ wad G a
      rw [ew]
      exact Nat.le_add_right _ _) hv _ (by rw [← hT]; rfl) X'
  exact ⟨t2, step t2 a1, b1⟩
/-- two references, at least told apart where one lies below the base -/
def sepB (sh : SH) (x y : Option Nat) : Bool := match x, y with
  | some a, some b => a == b || (decide (a < sh.1) && (decide (exA ≤ b) && decide (b < exA + exN)))
  | _, _ => true
theorem x_acmpE {rx ry : Option Nat} {off : Int} (tgt : Nat) (C : Cx G p R s m args meth c cc own nL ret hh mn) (hs : sepB X.1 rx ry = true) (hd : decode cc pc = .ok (.if_acmp .eq off, 3)) (ht : (pc : Int) + off = (tgt : Int)) (kt : rx = ry → J G p l e R s m args below meth c nL oc Xf mc ms X k n tgt lv st) (kf : ¬ rx = ry → J G p l e R s m args below meth c nL oc Xf mc ms X k n (pc + 3) lv st) : J G p l e R s m args below meth c nL oc Xf mc ms X k n pc lv (va_rf (ry.map (wad G)) :: va_rf (rx.map (wad G)) :: st) := by
  intro H locs ls hR hL hv
  have e : rx.map (wad G) = ry.map (wad G) ↔ rx = ry := by
    cases rx <;> cases ry <;> simp
    rename_i a b
    refine ⟨fun h => ?_, fun h => by rw [h]⟩
    have hs' : (a == b || (decide (a < X.1.1) && (decide (exA ≤ b) && decide (b < exA + exN)))) = true := hs
    simp only [Bool.or_eq_true, Bool.and_eq_true, beq_iff_eq, decide_eq_true_eq] at hs'
    rcases hs' with h9 | ⟨g1, g2, g3⟩
    · exact h9
    · have e1 := hR.apart g1 (Or.inr ⟨g2, g3⟩)
      by_cases e9 : b = a
      · exact e9.symm
      · exact absurd (h.symm.trans (hR.ad g1)) (e1 e9)
  exact lv_acmp_eq C.1 C.2.1 hd ht (fun h => kt (e.mp h) H locs ls hR hL hv) (fun h => kf (fun g => h (e.mpr g)) H locs ls hR hL hv)
/-- a private method, of an object whose class may lie below -/
theorem sel_priv {C : String} {x y : MethodName} {c2 : Nat} {cr : vw_C} {args : Array Value} {s : State} (hts : ∀ w ∈ lw_all, w.before args s = true) (hy : y.cls ≠ "java/lang/invoke/MethodHandle" ∧ y.cls ≠ "java/lang/invoke/VarHandle") (hx : x.cls = y.cls) (hsib : Cond.selects C x x ∈ lw_all) (hx2 : x.cls ≠ "java/lang/invoke/MethodHandle" ∧ x.cls ≠ "java/lang/invoke/VarHandle") (hpriv : (Cond.privateMethod y).before args s = true) (hinst : Cond.instanceMethod y ∈ lw_all) : (Cond.selects C y y).before args s = true := by
  obtain ⟨c3, r3, m3, q1, q2, q3, q4, kP, hkP, hkPi⟩ := Cond.selects_spec (hts _ hsib)
  cases (State.methodFound?_of_named q3 hx2).symm.trans q2
  obtain ⟨mk, methM, hnamed, hmethM, -, -⟩ := Cond.instanceMethod_spec (hts _ hinst)
  have hfound : s.methodFound? y.cls y.name y.desc = some mk := State.methodFound?_of_named hnamed hy
  have hcls : mk.cls = r3.cls := by
    have e1 := findClass_of_methodNamed hnamed
    have e2 := findClass_of_methodNamed q3
    rw [hx] at e2
    exact Option.some.inj (e1.symm.trans e2)
  have hsel : selectMethod {} s.vm c3 mk = .method mk := selectMethod_private hmethM (Cond.privateMethod_at hpriv mk methM hnamed hmethM)
  simp only [Cond.before, Cond.holds, Cond.value, q1, hfound, hnamed, hsel, hcls, hkP]
  simp [hkP, hkPi]
theorem x_callP {rm : Room} {v : Option Value} {As rest : List Value} {x y : MethodName} {b : ByteArray} {L idx q a c2 : Nat} {r : Option FieldType} {cr : vw_C} (C : Cx G p R s m args meth c cc own nL ret hh mn) (hM : CT G l y (ws_ y b L r) rm (.ref (wad G a) :: As) X (.returned v) X') (ho : ob X.1 a c2) (hc : vwCl[c2]? = some cr) (hl : Cond.methodLink own idx y ∈ lw_all) (hx : x.cls = y.cls) (hsib : Cond.selects cr.1 x x ∈ lw_all) (hx2 : x.cls ≠ "java/lang/invoke/MethodHandle" ∧ x.cls ≠ "java/lang/invoke/VarHandle") (hpriv : Cond.privateMethod y ∈ lw_tbl) (h1 : Cond.sameMethod y.cls y.cls y.name y.desc ∈ lw_all) (h3 : Cond.instanceMethod y ∈ lw_all) (h4 : Cond.initialized y.cls ∈ lw_all) (h5 : Cond.code y b L r ∈ lw_all) (hok : callOK y q) (hd : decode cc pc = .ok (.invokevirtual idx, 3)) (hq : As.length = q) (hst : st = As.reverse ++ .ref (wad G a) :: rest) (hW : (rest.map fun v => v.category).sum ≤ 8) (hrm : rmOK rm R L k n = true) (kk : J G p l e R s m args below meth c nL oc Xf mc ms X' (k + rm.cells) (n + rm.slots) (pc + 3) lv (v.toList ++ rest)) : J G p l e R s m args below meth c nL oc Xf mc ms X k n pc lv st := by
  obtain ⟨r1, r2⟩ := rmOK.u hrm
  refine j_run (As := As) (rest := rest) (a9 := (.ref (wad G a) :: As : List Value).toArray) (fun H locs ls hR hz => ?_) kk
  have hs := sel_priv (c2 := c2) (cr := cr) C.2.2.2.2.1 ⟨hok.1, hok.2.1⟩ hx hsib hx2 (show (Cond.privateMethod y).before args s = true from C.nw hpriv rfl) h3
  have hT : ∀ w ∈ Cond.selects cr.1 y y :: lw_all, w.before args s = true := by
    intro w hw
    rcases List.mem_cons.mp hw with e | e
    · rw [e]; exact hs
    · exact C.2.2.2.2.1 _ e
  have hG : GoodIn (Cond.selects cr.1 y y :: lw_all) (([.methodLink own idx y, .sameMethod y.cls y.cls y.name y.desc, .selects cr.1 y y, .instanceMethod y, .initialized y.cls] : List Cond) ++ ws_ y b L r) := by
    intro w hw
    rcases List.mem_append.mp hw with e | e
    · simp only [List.mem_cons, List.not_mem_nil, or_false] at e
      rcases e with e | e | e | e | e
      · rw [e]; exact ⟨List.mem_cons_of_mem _ hl, (lw_self _ hl).2⟩
      · rw [e]; exact ⟨List.mem_cons_of_mem _ h1, (lw_self _ h1).2⟩
      · rw [e]; exact ⟨List.mem_cons_self, Or.inl rfl⟩
      · rw [e]; exact ⟨List.mem_cons_of_mem _ h3, (lw_self _ h3).2⟩
      · rw [e]; exact ⟨List.mem_cons_of_mem _ h4, (lw_self _ h4).2⟩
    · exact ⟨List.mem_cons_of_mem _ (lw_meth h5 w e).1, (lw_meth h5 w e).2⟩
  exact va_runU (Ts := Cond.selects cr.1 y y :: lw_all) (C := cr.1) (owner := y.cls) (x := y) (As := As) (rest := rest) ⟨C.1, C.2.1, C.2.2.1, C.2.2.2.1, hT⟩ hM.met (va_cwU q hT hG rfl rfl rfl rfl hok r1) ⟨PcX.blind G _ X, hR.recv C ho hc, fun U hU hW => ⟨rfl, by rw [hU]; exact hR, C.2.2.2.2.2.2.1.moved hW⟩⟩ rfl hq hz hst (by show 2 * 0 + _ ≤ 8; omega) hd r2
end JROWS2
