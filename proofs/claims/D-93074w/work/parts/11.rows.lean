/-! ROWS OF J -/
set_option maxRecDepth 100000
section JROWS
variable {G : WG} {p : Program} {l : Launch} {e : Env} {R : Room} {s : State} {m : MethodId} {args : Array Value} {below : List Frame} {meth : Method} {c : Code} {cc : ByteArray} {own : String} {nL : Nat} {ret : Option FieldType} {hh : List (Nat × Nat × Nat × Nat)} {mn : String} {oc : Outcome} {Xf : XX} {mc ms : Nat} {X : XX} {sh : SH} {I : II} {k n : Nat} {pc : Nat} {lv : List (Option Value)} {st : List Value}
theorem W.mono {H : Heap} {locs : List Loc} {Q Q' : State → Prop} {g : JFrame} (h : ∀ t, Q t → Q' t) (kk : W p l e R s m args below meth c H locs k n Q g) : W p l e R s m args below meth c H locs k n Q' g := fun T hT X => by
  obtain ⟨t, a, b⟩ := kk T hT X
  exact ⟨t, a, h t b⟩
theorem lvA_mem : ∀ (vs : List Value) (n i q : Nat) (v : Value), lget (lvA vs n) q = some v → (i + q, v) ∈ lv_args i vs
  | [], n, i, q, v, h => by
    exfalso
    have : ∀ (n q : Nat), lget (List.replicate n none) q = none := by
      intro n
      induction n with
      | zero => intro q; rfl
      | succ n ih => intro q; cases q with
        | zero => rfl
        | succ q => exact ih q
    rw [lvA, this] at h
    cases h
  | w :: vs, n, i, q, v, h => by
    unfold lvA at h
    unfold lv_args
    by_cases hc : w.category = 2
    · rw [if_pos hc] at h ⊢
      match q, h with
      | 0, h => cases h; exact List.mem_cons_self
      | 1, h => cases h
      | q + 2, h =>
        have := lvA_mem vs _ (i + 2) q v h
        rw [show i + (q + 2) = i + 2 + q by omega]
        exact List.mem_cons_of_mem _ this
    · rw [if_neg hc] at h ⊢
      match q, h with
      | 0, h => cases h; exact List.mem_cons_self
      | q + 1, h =>
        have := lvA_mem vs _ (i + 1) q v h
        rw [show i + (q + 1) = i + 1 + q by omega]
        exact List.mem_cons_of_mem _ this
theorem CT.ofJ {y : MethodName} {rm : Room} {As : List Value} (own : String) (hy0 : y.cls = own) (hy : plainName y.cls = true) (hL : (lg_sl As).length ≤ nL) (body : ∀ (p : Program) (e : Env) (s : State) (m : MethodId) (args : Array Value) (below : List Frame) (meth : Method) (c : Code), Cx G p rm s m args meth c cc own nL ret [] y.name → J G p l e rm s m args below meth c nL oc Xf rm.cells rm.slots X 0 0 0 (lvA As nL) []) : CT G l y (ws_ y cc nL ret) rm As X oc Xf := by
  refine MetFree.of_bodyS (code := cc) (maxLocals := nL) (ret := ret) hy ?_ ?_
  · intro args s m h hn
    obtain ⟨meth, c, h1, h2, h3, h4, h5, h6, -, -⟩ := Cond.code_spec hn (atoms_spec (ws := ws_ y cc nL ret) h _ List.mem_cons_self)
    exact ⟨meth, c, h1, h2, h3, h4, h5, h6⟩
  · intro p e s m args below meth c s₁ B hml hP _
    obtain ⟨rfl, hR, hK⟩ := hP
    have hh0 : s₁.heap = s.heap := by rw [B.state]; rfl
    have hts := atoms_spec (ws := ws_ y cc nL ret) B.pre
    have hno : c.exceptionTable.isEmpty = true := B.noHandlers (hts _ List.mem_cons_self)
    have hno : c.exceptionTable.toList = [] := List.eq_nil_of_length_eq_zero (by simpa [Array.isEmpty] using hno)
    have C : Cx G p rm s m As.toArray meth c cc own nL ret [] y.name := hy0 ▸ ⟨B.exec, B.bytes, hml, findClass_of_methodNamed B.named, fun w h => hts w (List.mem_cons_of_mem _ h), B.notSynchronized, hK, B.returns, by rw [hno]; rfl, (name_of_methodNamed B.named B.method).1⟩
    have hl := lv_entry As (n := nL) hL
    have K := body p e s m _ below meth c C s.heap [] _ hR (fun q h => by cases h) ⟨hl.1, hl.2.1, fun q v h => hl.2.2 (q, v) (by have := lvA_mem As nL 0 q v h; rwa [Nat.zero_add] at this)⟩
    rw [← lg_entry_eq] at K
    obtain ⟨t, a1, o, b1, b2, b3, L, b4, b5⟩ := K s₁ hh0 (Stand.of_body B)
    exact ⟨t, o, a1, b1, b2, b3, L, b4, b5⟩
theorem qx_of {v : Option Value} {t : State} (h : MQ below (QcX G (.returned v) X) args s mc ms (fun q => gb G ≤ q) t) : QX G below s (.returned v) X mc ms t := by
  obtain ⟨o, h1, h2, h3, L, ⟨-, h4, h5⟩, h6⟩ := h
  exact ⟨o, h1, h2, h3, L, ⟨h4, h5⟩, h6⟩
theorem j_iret {v : Int32} (C : Cx G p R s m args meth c cc own nL (some .int) hh mn) (hd : decode cc pc = .ok (.ireturn, 1)) (hk : k ≤ mc) (hn : n ≤ ms) : J G p l e R s m args below meth c nL (.returned (some (.int v))) X mc ms X k n pc lv [.int v] := by
  intro H locs ls hR hL hv
  refine W.widen hk hn (W.mono (fun t h => qx_of (args := args) h) ?_)
  exact W.iret C.1 C.2.1 C.2.2.2.2.2.2.2.1 (fun t ht hW => ⟨rfl, by rw [ht]; exact hR⟩) hL hd C.2.2.2.2.2.1
theorem j_lret {v : Int64} (C : Cx G p R s m args meth c cc own nL (some .long) hh mn) (hd : decode cc pc = .ok (.lreturn, 1)) (hk : k ≤ mc) (hn : n ≤ ms) : J G p l e R s m args below meth c nL (.returned (some (.long v))) X mc ms X k n pc lv [.long v] := by
  intro H locs ls hR hL hv
  refine W.widen hk hn (W.mono (fun t h => qx_of (args := args) h) ?_)
  exact W.lret C.1 C.2.1 C.2.2.2.2.2.2.2.1 (fun t ht hW => ⟨rfl, by rw [ht]; exact hR⟩) hL hd C.2.2.2.2.2.1
theorem j_vret  (C : Cx G p R s m args meth c cc own nL none hh mn) (hd : decode cc pc = .ok (.return_, 1)) (hk : k ≤ mc) (hn : n ≤ ms) : J G p l e R s m args below meth c nL (.returned (none)) X mc ms X k n pc lv [] := by
  intro H locs ls hR hL hv
  refine W.widen hk hn (W.mono (fun t h => qx_of (args := args) h) ?_)
  exact W.vret C.1 C.2.1 C.2.2.2.2.2.2.2.1 (fun t ht hW => ⟨rfl, by rw [ht]; exact hR⟩) hL hd C.2.2.2.2.2.1
theorem j_zret {v : Int32} (C : Cx G p R s m args meth c cc own nL (some .boolean) hh mn) (hd : decode cc pc = .ok (.ireturn, 1)) (hk : k ≤ mc) (hn : n ≤ ms) (hb : narrow .boolean (.int v) = .int v) : J G p l e R s m args below meth c nL (.returned (some (.int v))) X mc ms X k n pc lv [.int v] := by
  intro H locs ls hR hL hv
  refine W.widen hk hn (W.mono (fun t h => qx_of (args := args) h) ?_)
  exact W.zret C.1 C.2.1 C.2.2.2.2.2.2.2.1 hb (fun t ht hW => ⟨rfl, by rw [ht]; exact hR⟩) hL hd C.2.2.2.2.2.1
theorem j_aret {v : Value} {rt : FieldType} (C : Cx G p R s m args meth c cc own nL (some rt) hh mn) (hd : decode cc pc = .ok (.areturn, 1)) (hk : k ≤ mc) (hn : n ≤ ms) (hrt : (∃ n, rt = .object n) ∨ ∃ t, rt = .array t) (hva : v = .null ∨ ∃ a, v = .ref a) : J G p l e R s m args below meth c nL (.returned (some v)) X mc ms X k n pc lv [v] := by
  intro H locs ls hR hL hv
  refine W.widen hk hn (W.mono (fun t h => qx_of (args := args) h) ?_)
  exact W.aret C.1 C.2.1 C.2.2.2.2.2.2.2.1 hrt hva (fun t ht hW => ⟨rfl, by rw [ht]; exact hR⟩) hL hd C.2.2.2.2.2.1
theorem j_iconst {z : Int} {v : Int32} (C : Cx G p R s m args meth c cc own nL ret hh mn) (hd : decode cc pc = .ok (.iconst z, 1)) (hv9 : Int32.ofInt z = v) (kk : J G p l e R s m args below meth c nL oc Xf mc ms X k n (pc + 1) lv (.int v :: st)) : J G p l e R s m args below meth c nL oc Xf mc ms X k n pc lv (st) := fun H locs ls hR hL hv => lv_iconst C.1 C.2.1 hd hv9 (kk H locs ls hR hL hv)
theorem j_bipush {z : Int} {v : Int32} (C : Cx G p R s m args meth c cc own nL ret hh mn) (hd : decode cc pc = .ok (.bipush z, 2)) (hv9 : (Int8.ofInt z).toInt32 = v) (kk : J G p l e R s m args below meth c nL oc Xf mc ms X k n (pc + 2) lv (.int v :: st)) : J G p l e R s m args below meth c nL oc Xf mc ms X k n pc lv (st) := fun H locs ls hR hL hv => lv_bipush C.1 C.2.1 hd hv9 (kk H locs ls hR hL hv)
theorem j_sipush {z : Int} {v : Int32} (C : Cx G p R s m args meth c cc own nL ret hh mn) (hd : decode cc pc = .ok (.sipush z, 3)) (hv9 : (Int16.ofInt z).toInt32 = v) (kk : J G p l e R s m args below meth c nL oc Xf mc ms X k n (pc + 3) lv (.int v :: st)) : J G p l e R s m args below meth c nL oc Xf mc ms X k n pc lv (st) := fun H locs ls hR hL hv => lv_sipush C.1 C.2.1 hd hv9 (kk H locs ls hR hL hv)
theorem j_lconst {z : Fin 2} {v : Int64} (C : Cx G p R s m args meth c cc own nL ret hh mn) (hd : decode cc pc = .ok (.lconst z, 1)) (hv9 : Int64.ofNat (z : Nat) = v) (kk : J G p l e R s m args below meth c nL oc Xf mc ms X k n (pc + 1) lv (.long v :: st)) : J G p l e R s m args below meth c nL oc Xf mc ms X k n pc lv (st) := fun H locs ls hR hL hv => lv_lconst C.1 C.2.1 hd hv9 (kk H locs ls hR hL hv)
theorem j_null  (C : Cx G p R s m args meth c cc own nL ret hh mn) (hd : decode cc pc = .ok (.aconst_null, 1)) (kk : J G p l e R s m args below meth c nL oc Xf mc ms X k n (pc + 1) lv (.null :: st)) : J G p l e R s m args below meth c nL oc Xf mc ms X k n pc lv (st) := fun H locs ls hR hL hv => lv_null C.1 C.2.1 hd (kk H locs ls hR hL hv)
theorem j_iadd {x y : Int32} (C : Cx G p R s m args meth c cc own nL ret hh mn) (hd : decode cc pc = .ok (.iadd, 1)) (kk : J G p l e R s m args below meth c nL oc Xf mc ms X k n (pc + 1) lv (.int (x + y) :: st)) : J G p l e R s m args below meth c nL oc Xf mc ms X k n pc lv (.int y :: .int x :: st) := fun H locs ls hR hL hv => lv_iadd C.1 C.2.1 hd (kk H locs ls hR hL hv)
theorem j_isub {x y : Int32} (C : Cx G p R s m args meth c cc own nL ret hh mn) (hd : decode cc pc = .ok (.isub, 1)) (kk : J G p l e R s m args below meth c nL oc Xf mc ms X k n (pc + 1) lv (.int (x - y) :: st)) : J G p l e R s m args below meth c nL oc Xf mc ms X k n pc lv (.int y :: .int x :: st) := fun H locs ls hR hL hv => lv_isub C.1 C.2.1 hd (kk H locs ls hR hL hv)
theorem j_imul {x y : Int32} (C : Cx G p R s m args meth c cc own nL ret hh mn) (hd : decode cc pc = .ok (.imul, 1)) (kk : J G p l e R s m args below meth c nL oc Xf mc ms X k n (pc + 1) lv (.int (x * y) :: st)) : J G p l e R s m args below meth c nL oc Xf mc ms X k n pc lv (.int y :: .int x :: st) := fun H locs ls hR hL hv => lv_imul C.1 C.2.1 hd (kk H locs ls hR hL hv)
theorem j_iand {x y : Int32} (C : Cx G p R s m args meth c cc own nL ret hh mn) (hd : decode cc pc = .ok (.iand, 1)) (kk : J G p l e R s m args below meth c nL oc Xf mc ms X k n (pc + 1) lv (.int (x &&& y) :: st)) : J G p l e R s m args below meth c nL oc Xf mc ms X k n pc lv (.int y :: .int x :: st) := fun H locs ls hR hL hv => lv_iand C.1 C.2.1 hd (kk H locs ls hR hL hv)
theorem j_ior {x y : Int32} (C : Cx G p R s m args meth c cc own nL ret hh mn) (hd : decode cc pc = .ok (.ior, 1)) (kk : J G p l e R s m args below meth c nL oc Xf mc ms X k n (pc + 1) lv (.int (x ||| y) :: st)) : J G p l e R s m args below meth c nL oc Xf mc ms X k n pc lv (.int y :: .int x :: st) := fun H locs ls hR hL hv => lv_ior C.1 C.2.1 hd (kk H locs ls hR hL hv)
theorem j_ixor {x y : Int32} (C : Cx G p R s m args meth c cc own nL ret hh mn) (hd : decode cc pc = .ok (.ixor, 1)) (kk : J G p l e R s m args below meth c nL oc Xf mc ms X k n (pc + 1) lv (.int (x ^^^ y) :: st)) : J G p l e R s m args below meth c nL oc Xf mc ms X k n pc lv (.int y :: .int x :: st) := fun H locs ls hR hL hv => lv_ixor C.1 C.2.1 hd (kk H locs ls hR hL hv)
theorem j_ladd {x y : Int64} (C : Cx G p R s m args meth c cc own nL ret hh mn) (hd : decode cc pc = .ok (.ladd, 1)) (kk : J G p l e R s m args below meth c nL oc Xf mc ms X k n (pc + 1) lv (.long (x + y) :: st)) : J G p l e R s m args below meth c nL oc Xf mc ms X k n pc lv (.long y :: .long x :: st) := fun H locs ls hR hL hv => lv_ladd C.1 C.2.1 hd (kk H locs ls hR hL hv)
theorem j_lsub {x y : Int64} (C : Cx G p R s m args meth c cc own nL ret hh mn) (hd : decode cc pc = .ok (.lsub, 1)) (kk : J G p l e R s m args below meth c nL oc Xf mc ms X k n (pc + 1) lv (.long (x - y) :: st)) : J G p l e R s m args below meth c nL oc Xf mc ms X k n pc lv (.long y :: .long x :: st) := fun H locs ls hR hL hv => lv_lsub C.1 C.2.1 hd (kk H locs ls hR hL hv)
theorem j_lmul {x y : Int64} (C : Cx G p R s m args meth c cc own nL ret hh mn) (hd : decode cc pc = .ok (.lmul, 1)) (kk : J G p l e R s m args below meth c nL oc Xf mc ms X k n (pc + 1) lv (.long (x * y) :: st)) : J G p l e R s m args below meth c nL oc Xf mc ms X k n pc lv (.long y :: .long x :: st) := fun H locs ls hR hL hv => lv_lmul C.1 C.2.1 hd (kk H locs ls hR hL hv)
theorem j_land {x y : Int64} (C : Cx G p R s m args meth c cc own nL ret hh mn) (hd : decode cc pc = .ok (.land, 1)) (kk : J G p l e R s m args below meth c nL oc Xf mc ms X k n (pc + 1) lv (.long (x &&& y) :: st)) : J G p l e R s m args below meth c nL oc Xf mc ms X k n pc lv (.long y :: .long x :: st) := fun H locs ls hR hL hv => lv_land C.1 C.2.1 hd (kk H locs ls hR hL hv)
theorem j_lor {x y : Int64} (C : Cx G p R s m args meth c cc own nL ret hh mn) (hd : decode cc pc = .ok (.lor, 1)) (kk : J G p l e R s m args below meth c nL oc Xf mc ms X k n (pc + 1) lv (.long (x ||| y) :: st)) : J G p l e R s m args below meth c nL oc Xf mc ms X k n pc lv (.long y :: .long x :: st) := fun H locs ls hR hL hv => lv_lor C.1 C.2.1 hd (kk H locs ls hR hL hv)
theorem j_idiv {x y : Int32} (C : Cx G p R s m args meth c cc own nL ret hh mn) (hd : decode cc pc = .ok (.idiv, 1)) (hne : ¬ y = 0) (kk : J G p l e R s m args below meth c nL oc Xf mc ms X k n (pc + 1) lv (.int (x / y) :: st)) : J G p l e R s m args below meth c nL oc Xf mc ms X k n pc lv (.int y :: .int x :: st) := fun H locs ls hR hL hv => lv_idiv C.1 C.2.1 hd hne (kk H locs ls hR hL hv)
theorem j_irem {x y : Int32} (C : Cx G p R s m args meth c cc own nL ret hh mn) (hd : decode cc pc = .ok (.irem, 1)) (hne : ¬ y = 0) (kk : J G p l e R s m args below meth c nL oc Xf mc ms X k n (pc + 1) lv (.int (x - x / y * y) :: st)) : J G p l e R s m args below meth c nL oc Xf mc ms X k n pc lv (.int y :: .int x :: st) := fun H locs ls hR hL hv => lv_irem C.1 C.2.1 hd hne (kk H locs ls hR hL hv)
theorem j_ineg {x : Int32} (C : Cx G p R s m args meth c cc own nL ret hh mn) (hd : decode cc pc = .ok (.ineg, 1)) (kk : J G p l e R s m args below meth c nL oc Xf mc ms X k n (pc + 1) lv (.int (-x) :: st)) : J G p l e R s m args below meth c nL oc Xf mc ms X k n pc lv (.int x :: st) := fun H locs ls hR hL hv => lv_ineg C.1 C.2.1 hd (kk H locs ls hR hL hv)
theorem j_ishl {x y : Int32} (C : Cx G p R s m args meth c cc own nL ret hh mn) (hd : decode cc pc = .ok (.ishl, 1)) (kk : J G p l e R s m args below meth c nL oc Xf mc ms X k n (pc + 1) lv (.int (x <<< (y &&& 31)) :: st)) : J G p l e R s m args below meth c nL oc Xf mc ms X k n pc lv (.int y :: .int x :: st) := fun H locs ls hR hL hv => lv_ishl C.1 C.2.1 hd (kk H locs ls hR hL hv)
theorem j_ishr {x y : Int32} (C : Cx G p R s m args meth c cc own nL ret hh mn) (hd : decode cc pc = .ok (.ishr, 1)) (kk : J G p l e R s m args below meth c nL oc Xf mc ms X k n (pc + 1) lv (.int (x >>> (y &&& 31)) :: st)) : J G p l e R s m args below meth c nL oc Xf mc ms X k n pc lv (.int y :: .int x :: st) := fun H locs ls hR hL hv => lv_ishr C.1 C.2.1 hd (kk H locs ls hR hL hv)
theorem j_iushr {x y : Int32} (C : Cx G p R s m args meth c cc own nL ret hh mn) (hd : decode cc pc = .ok (.iushr, 1)) (kk : J G p l e R s m args below meth c nL oc Xf mc ms X k n (pc + 1) lv (.int (x.toUInt32 >>> (y.toUInt32 &&& Int32.toUInt32 31)).toInt32 :: st)) : J G p l e R s m args below meth c nL oc Xf mc ms X k n pc lv (.int y :: .int x :: st) := fun H locs ls hR hL hv => lv_iushr C.1 C.2.1 hd rfl (kk H locs ls hR hL hv)
theorem j_i2l {x : Int32} (C : Cx G p R s m args meth c cc own nL ret hh mn) (hd : decode cc pc = .ok (.i2l, 1)) (kk : J G p l e R s m args below meth c nL oc Xf mc ms X k n (pc + 1) lv (.long x.toInt64 :: st)) : J G p l e R s m args below meth c nL oc Xf mc ms X k n pc lv (.int x :: st) := fun H locs ls hR hL hv => lv_i2l C.1 C.2.1 hd rfl (kk H locs ls hR hL hv)
theorem j_l2i {x : Int64} (C : Cx G p R s m args meth c cc own nL ret hh mn) (hd : decode cc pc = .ok (.l2i, 1)) (kk : J G p l e R s m args below meth c nL oc Xf mc ms X k n (pc + 1) lv (.int x.toInt32 :: st)) : J G p l e R s m args below meth c nL oc Xf mc ms X k n pc lv (.long x :: st) := fun H locs ls hR hL hv => lv_l2i C.1 C.2.1 hd rfl (kk H locs ls hR hL hv)
theorem j_i2b {x : Int32} (C : Cx G p R s m args meth c cc own nL ret hh mn) (hd : decode cc pc = .ok (.i2b, 1)) (kk : J G p l e R s m args below meth c nL oc Xf mc ms X k n (pc + 1) lv (.int x.toInt8.toInt32 :: st)) : J G p l e R s m args below meth c nL oc Xf mc ms X k n pc lv (.int x :: st) := fun H locs ls hR hL hv => lv_i2b C.1 C.2.1 hd rfl (kk H locs ls hR hL hv)
theorem j_i2s {x : Int32} (C : Cx G p R s m args meth c cc own nL ret hh mn) (hd : decode cc pc = .ok (.i2s, 1)) (kk : J G p l e R s m args below meth c nL oc Xf mc ms X k n (pc + 1) lv (.int x.toInt16.toInt32 :: st)) : J G p l e R s m args below meth c nL oc Xf mc ms X k n pc lv (.int x :: st) := fun H locs ls hR hL hv => lv_i2s C.1 C.2.1 hd rfl (kk H locs ls hR hL hv)
theorem j_i2c {x : Int32} (C : Cx G p R s m args meth c cc own nL ret hh mn) (hd : decode cc pc = .ok (.i2c, 1)) (kk : J G p l e R s m args below meth c nL oc Xf mc ms X k n (pc + 1) lv (.int (x.toUInt32 % 65536).toInt32 :: st)) : J G p l e R s m args below meth c nL oc Xf mc ms X k n pc lv (.int x :: st) := fun H locs ls hR hL hv => lv_i2c C.1 C.2.1 hd rfl (kk H locs ls hR hL hv)
theorem j_lshl {x : Int64} {y : Int32} (C : Cx G p R s m args meth c cc own nL ret hh mn) (hd : decode cc pc = .ok (.lshl, 1)) (kk : J G p l e R s m args below meth c nL oc Xf mc ms X k n (pc + 1) lv (.long (x <<< (y.toInt64 &&& 63)) :: st)) : J G p l e R s m args below meth c nL oc Xf mc ms X k n pc lv (.int y :: .long x :: st) := fun H locs ls hR hL hv => lv_lshl C.1 C.2.1 hd rfl (kk H locs ls hR hL hv)
theorem j_lshr {x : Int64} {y : Int32} (C : Cx G p R s m args meth c cc own nL ret hh mn) (hd : decode cc pc = .ok (.lshr, 1)) (kk : J G p l e R s m args below meth c nL oc Xf mc ms X k n (pc + 1) lv (.long (x >>> (y.toInt64 &&& 63)) :: st)) : J G p l e R s m args below meth c nL oc Xf mc ms X k n pc lv (.int y :: .long x :: st) := fun H locs ls hR hL hv => lv_lshr C.1 C.2.1 hd rfl (kk H locs ls hR hL hv)
theorem j_dup {va : Value} (C : Cx G p R s m args meth c cc own nL ret hh mn) (hd : decode cc pc = .ok (.dup, 1)) (h1 : va.category = 1) (kk : J G p l e R s m args below meth c nL oc Xf mc ms X k n (pc + 1) lv (va :: va :: st)) : J G p l e R s m args below meth c nL oc Xf mc ms X k n pc lv (va :: st) := fun H locs ls hR hL hv => lv_dup C.1 C.2.1 hd h1 (kk H locs ls hR hL hv)
theorem j_pop {va : Value} (C : Cx G p R s m args meth c cc own nL ret hh mn) (hd : decode cc pc = .ok (.pop, 1)) (h1 : va.category = 1) (kk : J G p l e R s m args below meth c nL oc Xf mc ms X k n (pc + 1) lv (st)) : J G p l e R s m args below meth c nL oc Xf mc ms X k n pc lv (va :: st) := fun H locs ls hR hL hv => lv_pop C.1 C.2.1 hd h1 (kk H locs ls hR hL hv)
theorem j_dup_x1 {va vb : Value} (C : Cx G p R s m args meth c cc own nL ret hh mn) (hd : decode cc pc = .ok (.dup_x1, 1)) (h1 : va.category = 1) (h2 : vb.category = 1) (kk : J G p l e R s m args below meth c nL oc Xf mc ms X k n (pc + 1) lv (va :: vb :: va :: st)) : J G p l e R s m args below meth c nL oc Xf mc ms X k n pc lv (va :: vb :: st) := fun H locs ls hR hL hv => lv_dup_x1 C.1 C.2.1 hd h1 h2 (kk H locs ls hR hL hv)
theorem j_dup2 {va vb : Value} (C : Cx G p R s m args meth c cc own nL ret hh mn) (hd : decode cc pc = .ok (.dup2, 1)) (h1 : va.category = 1) (h2 : vb.category = 1) (kk : J G p l e R s m args below meth c nL oc Xf mc ms X k n (pc + 1) lv (va :: vb :: va :: vb :: st)) : J G p l e R s m args below meth c nL oc Xf mc ms X k n pc lv (va :: vb :: st) := fun H locs ls hR hL hv => lv_dup2_11 C.1 C.2.1 hd h1 h2 (kk H locs ls hR hL hv)
theorem j_lcmp {x y : Int64} (C : Cx G p R s m args meth c cc own nL ret hh mn) (hd : decode cc pc = .ok (.lcmp, 1)) (kk : J G p l e R s m args below meth c nL oc Xf mc ms X k n (pc + 1) lv (.int (lg_cmp x y) :: st)) : J G p l e R s m args below meth c nL oc Xf mc ms X k n pc lv (.long y :: .long x :: st) := fun H locs ls hR hL hv => W.lcmp C.1 C.2.1 hd (kk H locs ls hR hL hv)
theorem j_ldc {idx : Nat} {v : Int32} (C : Cx G p R s m args meth c cc own nL ret hh mn) (hq : Cond.constant own idx v ∈ lw_all) (hd : decode cc pc = .ok (.ldc idx, 2)) (kk : J G p l e R s m args below meth c nL oc Xf mc ms X k n (pc + 2) lv (.int v :: st)) : J G p l e R s m args below meth c nL oc Xf mc ms X k n pc lv st := fun H locs ls hR hL hv => lv_ldc C.1 C.2.1 C.2.2.2.1 (C.2.2.2.2.1 _ hq) hd (kk H locs ls hR hL hv)
theorem j_ldcw {idx : Nat} {v : Int32} (C : Cx G p R s m args meth c cc own nL ret hh mn) (hq : Cond.constant own idx v ∈ lw_all) (hd : decode cc pc = .ok (.ldc_w idx, 3)) (kk : J G p l e R s m args below meth c nL oc Xf mc ms X k n (pc + 3) lv (.int v :: st)) : J G p l e R s m args below meth c nL oc Xf mc ms X k n pc lv st := fun H locs ls hR hL hv => lv_ldcw C.1 C.2.1 C.2.2.2.1 (C.2.2.2.2.1 _ hq) hd (kk H locs ls hR hL hv)
theorem j_ldc2 {idx : Nat} {v : Int64} (C : Cx G p R s m args meth c cc own nL ret hh mn) (hq : Cond.constantLong own idx v ∈ lw_all) (hd : decode cc pc = .ok (.ldc2_w idx, 3)) (kk : J G p l e R s m args below meth c nL oc Xf mc ms X k n (pc + 3) lv (.long v :: st)) : J G p l e R s m args below meth c nL oc Xf mc ms X k n pc lv st := fun H locs ls hR hL hv => lv_ldc2 C.1 C.2.1 C.2.2.2.1 (C.2.2.2.2.1 _ hq) hd (kk H locs ls hR hL hv)
theorem j_iload_n {q : Fin 4} {i : Nat} {x : Int32} (C : Cx G p R s m args meth c cc own nL ret hh mn) (hd : decode cc pc = .ok (.iload_n q, 1)) (hi : (q : Nat) = i) (hx : lget lv i = some (.int x)) (kk : J G p l e R s m args below meth c nL oc Xf mc ms X k n (pc + 1) lv (.int x :: st)) : J G p l e R s m args below meth c nL oc Xf mc ms X k n pc lv st := fun H locs ls hR hL hv => lv_iload_n C.1 C.2.1 hd hi (hv.2.2 i _ hx) (kk H locs ls hR hL hv)
theorem j_iload {i : Nat} {x : Int32} (C : Cx G p R s m args meth c cc own nL ret hh mn) (hd : decode cc pc = .ok (.iload i, 2)) (hx : lget lv i = some (.int x)) (kk : J G p l e R s m args below meth c nL oc Xf mc ms X k n (pc + 2) lv (.int x :: st)) : J G p l e R s m args below meth c nL oc Xf mc ms X k n pc lv st := fun H locs ls hR hL hv => lv_iload C.1 C.2.1 hd (hv.2.2 i _ hx) (kk H locs ls hR hL hv)
theorem j_lload_n {q : Fin 4} {i : Nat} {x : Int64} (C : Cx G p R s m args meth c cc own nL ret hh mn) (hd : decode cc pc = .ok (.lload_n q, 1)) (hi : (q : Nat) = i) (hx : lget lv i = some (.long x)) (kk : J G p l e R s m args below meth c nL oc Xf mc ms X k n (pc + 1) lv (.long x :: st)) : J G p l e R s m args below meth c nL oc Xf mc ms X k n pc lv st := fun H locs ls hR hL hv => lv_lload_n C.1 C.2.1 hd hi (hv.2.2 i _ hx) (kk H locs ls hR hL hv)
theorem j_lload {i : Nat} {x : Int64} (C : Cx G p R s m args meth c cc own nL ret hh mn) (hd : decode cc pc = .ok (.lload i, 2)) (hx : lget lv i = some (.long x)) (kk : J G p l e R s m args below meth c nL oc Xf mc ms X k n (pc + 2) lv (.long x :: st)) : J G p l e R s m args below meth c nL oc Xf mc ms X k n pc lv st := fun H locs ls hR hL hv => lv_lload C.1 C.2.1 hd (hv.2.2 i _ hx) (kk H locs ls hR hL hv)
theorem j_aload_n {q : Fin 4} {i : Nat} {x : Nat} (C : Cx G p R s m args meth c cc own nL ret hh mn) (hd : decode cc pc = .ok (.aload_n q, 1)) (hi : (q : Nat) = i) (hx : lget lv i = some (.ref x)) (kk : J G p l e R s m args below meth c nL oc Xf mc ms X k n (pc + 1) lv (.ref x :: st)) : J G p l e R s m args below meth c nL oc Xf mc ms X k n pc lv st := fun H locs ls hR hL hv => lv_aload_n C.1 C.2.1 hd hi (hv.2.2 i _ hx) (kk H locs ls hR hL hv)
theorem j_aload {i : Nat} {x : Nat} (C : Cx G p R s m args meth c cc own nL ret hh mn) (hd : decode cc pc = .ok (.aload i, 2)) (hx : lget lv i = some (.ref x)) (kk : J G p l e R s m args below meth c nL oc Xf mc ms X k n (pc + 2) lv (.ref x :: st)) : J G p l e R s m args below meth c nL oc Xf mc ms X k n pc lv st := fun H locs ls hR hL hv => lv_aload C.1 C.2.1 hd (hv.2.2 i _ hx) (kk H locs ls hR hL hv)
theorem j_istore_n {q : Fin 4} {i : Nat} {x : Int32} (C : Cx G p R s m args meth c cc own nL ret hh mn) (hd : decode cc pc = .ok (.istore_n q, 1)) (hi : (q : Nat) = i) (hn9 : i < nL) (hc : cat1 lv i = true) (kk : J G p l e R s m args below meth c nL oc Xf mc ms X k n (pc + 1) (lset lv i (some (.int x))) st) : J G p l e R s m args below meth c nL oc Xf mc ms X k n pc lv (.int x :: st) := fun H locs ls hR hL hv => lv_istore_n C.1 C.2.1 hd hi hv.has hn9 rfl (fun ls' h' => kk H locs ls' hR hL (lvH.st1 hc h'))
theorem j_istore {i : Nat} {x : Int32} (C : Cx G p R s m args meth c cc own nL ret hh mn) (hd : decode cc pc = .ok (.istore i, 2)) (hn9 : i < nL) (hc : cat1 lv i = true) (kk : J G p l e R s m args below meth c nL oc Xf mc ms X k n (pc + 2) (lset lv i (some (.int x))) st) : J G p l e R s m args below meth c nL oc Xf mc ms X k n pc lv (.int x :: st) := fun H locs ls hR hL hv => lv_istore C.1 C.2.1 hd hv.has hn9 rfl (fun ls' h' => kk H locs ls' hR hL (lvH.st1 hc h'))
theorem j_astore_n {q : Fin 4} {i : Nat} {x : Nat} (C : Cx G p R s m args meth c cc own nL ret hh mn) (hd : decode cc pc = .ok (.astore_n q, 1)) (hi : (q : Nat) = i) (hn9 : i < nL) (hc : cat1 lv i = true) (kk : J G p l e R s m args below meth c nL oc Xf mc ms X k n (pc + 1) (lset lv i (some (.ref x))) st) : J G p l e R s m args below meth c nL oc Xf mc ms X k n pc lv (.ref x :: st) := fun H locs ls hR hL hv => lv_astore_n C.1 C.2.1 hd hi hv.has hn9 rfl (fun ls' h' => kk H locs ls' hR hL (lvH.st1 hc h'))
theorem j_astore {i : Nat} {x : Nat} (C : Cx G p R s m args meth c cc own nL ret hh mn) (hd : decode cc pc = .ok (.astore i, 2)) (hn9 : i < nL) (hc : cat1 lv i = true) (kk : J G p l e R s m args below meth c nL oc Xf mc ms X k n (pc + 2) (lset lv i (some (.ref x))) st) : J G p l e R s m args below meth c nL oc Xf mc ms X k n pc lv (.ref x :: st) := fun H locs ls hR hL hv => lv_astore C.1 C.2.1 hd hv.has hn9 rfl (fun ls' h' => kk H locs ls' hR hL (lvH.st1 hc h'))
theorem j_lstore_n {q : Fin 4} {i : Nat} {x : Int64} (C : Cx G p R s m args meth c cc own nL ret hh mn) (hd : decode cc pc = .ok (.lstore_n q, 1)) (hi : (q : Nat) = i) (hn9 : i + 1 < nL) (hc : cat1 lv i = true) (kk : J G p l e R s m args below meth c nL oc Xf mc ms X k n (pc + 1) (lset (lset lv (i + 1) none) i (some (.long x))) st) : J G p l e R s m args below meth c nL oc Xf mc ms X k n pc lv (.long x :: st) := fun H locs ls hR hL hv => lv_lstore_n C.1 C.2.1 hd hi hv.has hn9 rfl (fun ls' h' => kk H locs ls' hR hL (lvH.st2 hc h'))
theorem j_lstore {i : Nat} {x : Int64} (C : Cx G p R s m args meth c cc own nL ret hh mn) (hd : decode cc pc = .ok (.lstore i, 2)) (hn9 : i + 1 < nL) (hc : cat1 lv i = true) (kk : J G p l e R s m args below meth c nL oc Xf mc ms X k n (pc + 2) (lset (lset lv (i + 1) none) i (some (.long x))) st) : J G p l e R s m args below meth c nL oc Xf mc ms X k n pc lv (.long x :: st) := fun H locs ls hR hL hv => lv_lstore C.1 C.2.1 hd hv.has hn9 rfl (fun ls' h' => kk H locs ls' hR hL (lvH.st2 hc h'))
theorem j_iinc {i : Nat} {z : Int} {x : Int32} (d : Int32) (C : Cx G p R s m args meth c cc own nL ret hh mn) (hd : decode cc pc = .ok (.iinc i z, 3)) (hx : lget lv i = some (.int x)) (hz : Int32.ofInt z = d) (hn9 : i < nL) (hc : cat1 lv i = true) (kk : J G p l e R s m args below meth c nL oc Xf mc ms X k n (pc + 3) (lset lv i (some (.int (x + d)))) st) : J G p l e R s m args below meth c nL oc Xf mc ms X k n pc lv st := by
  intro H locs ls hR hL hv
  obtain ⟨j, hj⟩ := List.getElem?_of_mem (lvp_mem.mpr hx)
  exact lv_iinc C.1 C.2.1 hd hv.has hj (by rw [hz]) hn9 rfl (fun ls' h' => kk H locs ls' hR hL (lvH.st1 hc h'))
theorem j_if_eq {x : Int32} {off : Int} (tgt : Nat) (C : Cx G p R s m args meth c cc own nL ret hh mn) (hd : decode cc pc = .ok (.ifCond .eq off, 3)) (ht : (pc : Int) + off = (tgt : Int)) (kt : x = 0 → J G p l e R s m args below meth c nL oc Xf mc ms X k n tgt lv st) (kf : ¬ x = 0 → J G p l e R s m args below meth c nL oc Xf mc ms X k n (pc + 3) lv st) : J G p l e R s m args below meth c nL oc Xf mc ms X k n pc lv (.int x :: st) := fun H locs ls hR hL hv => lv_if_eq C.1 C.2.1 hd ht (fun h => kt h H locs ls hR hL hv) (fun h => kf h H locs ls hR hL hv)
theorem j_icmp_eq {x y : Int32} {off : Int} (tgt : Nat) (C : Cx G p R s m args meth c cc own nL ret hh mn) (hd : decode cc pc = .ok (.if_icmp .eq off, 3)) (ht : (pc : Int) + off = (tgt : Int)) (kt : x = y → J G p l e R s m args below meth c nL oc Xf mc ms X k n tgt lv st) (kf : ¬ x = y → J G p l e R s m args below meth c nL oc Xf mc ms X k n (pc + 3) lv st) : J G p l e R s m args below meth c nL oc Xf mc ms X k n pc lv (.int y :: .int x :: st) := fun H locs ls hR hL hv => lv_icmp_eq C.1 C.2.1 hd ht (fun h => kt h H locs ls hR hL hv) (fun h => kf h H locs ls hR hL hv)
theorem j_if_ne {x : Int32} {off : Int} (tgt : Nat) (C : Cx G p R s m args meth c cc own nL ret hh mn) (hd : decode cc pc = .ok (.ifCond .ne off, 3)) (ht : (pc : Int) + off = (tgt : Int)) (kt : ¬ x = 0 → J G p l e R s m args below meth c nL oc Xf mc ms X k n tgt lv st) (kf : x = 0 → J G p l e R s m args below meth c nL oc Xf mc ms X k n (pc + 3) lv st) : J G p l e R s m args below meth c nL oc Xf mc ms X k n pc lv (.int x :: st) := fun H locs ls hR hL hv => lv_if_ne C.1 C.2.1 hd ht (fun h => kt h H locs ls hR hL hv) (fun h => kf h H locs ls hR hL hv)
theorem j_icmp_ne {x y : Int32} {off : Int} (tgt : Nat) (C : Cx G p R s m args meth c cc own nL ret hh mn) (hd : decode cc pc = .ok (.if_icmp .ne off, 3)) (ht : (pc : Int) + off = (tgt : Int)) (kt : ¬ x = y → J G p l e R s m args below meth c nL oc Xf mc ms X k n tgt lv st) (kf : x = y → J G p l e R s m args below meth c nL oc Xf mc ms X k n (pc + 3) lv st) : J G p l e R s m args below meth c nL oc Xf mc ms X k n pc lv (.int y :: .int x :: st) := fun H locs ls hR hL hv => lv_icmp_ne C.1 C.2.1 hd ht (fun h => kt h H locs ls hR hL hv) (fun h => kf h H locs ls hR hL hv)
theorem j_if_lt {x : Int32} {off : Int} (tgt : Nat) (C : Cx G p R s m args meth c cc own nL ret hh mn) (hd : decode cc pc = .ok (.ifCond .lt off, 3)) (ht : (pc : Int) + off = (tgt : Int)) (kt : x < 0 → J G p l e R s m args below meth c nL oc Xf mc ms X k n tgt lv st) (kf : ¬ x < 0 → J G p l e R s m args below meth c nL oc Xf mc ms X k n (pc + 3) lv st) : J G p l e R s m args below meth c nL oc Xf mc ms X k n pc lv (.int x :: st) := fun H locs ls hR hL hv => lv_if_lt C.1 C.2.1 hd ht (fun h => kt h H locs ls hR hL hv) (fun h => kf h H locs ls hR hL hv)
theorem j_icmp_lt {x y : Int32} {off : Int} (tgt : Nat) (C : Cx G p R s m args meth c cc own nL ret hh mn) (hd : decode cc pc = .ok (.if_icmp .lt off, 3)) (ht : (pc : Int) + off = (tgt : Int)) (kt : x < y → J G p l e R s m args below meth c nL oc Xf mc ms X k n tgt lv st) (kf : ¬ x < y → J G p l e R s m args below meth c nL oc Xf mc ms X k n (pc + 3) lv st) : J G p l e R s m args below meth c nL oc Xf mc ms X k n pc lv (.int y :: .int x :: st) := fun H locs ls hR hL hv => lv_icmp_lt C.1 C.2.1 hd ht (fun h => kt h H locs ls hR hL hv) (fun h => kf h H locs ls hR hL hv)
theorem j_if_ge {x : Int32} {off : Int} (tgt : Nat) (C : Cx G p R s m args meth c cc own nL ret hh mn) (hd : decode cc pc = .ok (.ifCond .ge off, 3)) (ht : (pc : Int) + off = (tgt : Int)) (kt : 0 ≤ x → J G p l e R s m args below meth c nL oc Xf mc ms X k n tgt lv st) (kf : ¬ 0 ≤ x → J G p l e R s m args below meth c nL oc Xf mc ms X k n (pc + 3) lv st) : J G p l e R s m args below meth c nL oc Xf mc ms X k n pc lv (.int x :: st) := fun H locs ls hR hL hv => lv_if_ge C.1 C.2.1 hd ht (fun h => kt h H locs ls hR hL hv) (fun h => kf h H locs ls hR hL hv)
theorem j_icmp_ge {x y : Int32} {off : Int} (tgt : Nat) (C : Cx G p R s m args meth c cc own nL ret hh mn) (hd : decode cc pc = .ok (.if_icmp .ge off, 3)) (ht : (pc : Int) + off = (tgt : Int)) (kt : y ≤ x → J G p l e R s m args below meth c nL oc Xf mc ms X k n tgt lv st) (kf : ¬ y ≤ x → J G p l e R s m args below meth c nL oc Xf mc ms X k n (pc + 3) lv st) : J G p l e R s m args below meth c nL oc Xf mc ms X k n pc lv (.int y :: .int x :: st) := fun H locs ls hR hL hv => lv_icmp_ge C.1 C.2.1 hd ht (fun h => kt h H locs ls hR hL hv) (fun h => kf h H locs ls hR hL hv)
theorem j_if_gt {x : Int32} {off : Int} (tgt : Nat) (C : Cx G p R s m args meth c cc own nL ret hh mn) (hd : decode cc pc = .ok (.ifCond .gt off, 3)) (ht : (pc : Int) + off = (tgt : Int)) (kt : 0 < x → J G p l e R s m args below meth c nL oc Xf mc ms X k n tgt lv st) (kf : ¬ 0 < x → J G p l e R s m args below meth c nL oc Xf mc ms X k n (pc + 3) lv st) : J G p l e R s m args below meth c nL oc Xf mc ms X k n pc lv (.int x :: st) := fun H locs ls hR hL hv => lv_if_gt C.1 C.2.1 hd ht (fun h => kt h H locs ls hR hL hv) (fun h => kf h H locs ls hR hL hv)
theorem j_icmp_gt {x y : Int32} {off : Int} (tgt : Nat) (C : Cx G p R s m args meth c cc own nL ret hh mn) (hd : decode cc pc = .ok (.if_icmp .gt off, 3)) (ht : (pc : Int) + off = (tgt : Int)) (kt : y < x → J G p l e R s m args below meth c nL oc Xf mc ms X k n tgt lv st) (kf : ¬ y < x → J G p l e R s m args below meth c nL oc Xf mc ms X k n (pc + 3) lv st) : J G p l e R s m args below meth c nL oc Xf mc ms X k n pc lv (.int y :: .int x :: st) := fun H locs ls hR hL hv => lv_icmp_gt C.1 C.2.1 hd ht (fun h => kt h H locs ls hR hL hv) (fun h => kf h H locs ls hR hL hv)
theorem j_if_le {x : Int32} {off : Int} (tgt : Nat) (C : Cx G p R s m args meth c cc own nL ret hh mn) (hd : decode cc pc = .ok (.ifCond .le off, 3)) (ht : (pc : Int) + off = (tgt : Int)) (kt : x ≤ 0 → J G p l e R s m args below meth c nL oc Xf mc ms X k n tgt lv st) (kf : ¬ x ≤ 0 → J G p l e R s m args below meth c nL oc Xf mc ms X k n (pc + 3) lv st) : J G p l e R s m args below meth c nL oc Xf mc ms X k n pc lv (.int x :: st) := fun H locs ls hR hL hv => lv_if_le C.1 C.2.1 hd ht (fun h => kt h H locs ls hR hL hv) (fun h => kf h H locs ls hR hL hv)
theorem j_icmp_le {x y : Int32} {off : Int} (tgt : Nat) (C : Cx G p R s m args meth c cc own nL ret hh mn) (hd : decode cc pc = .ok (.if_icmp .le off, 3)) (ht : (pc : Int) + off = (tgt : Int)) (kt : x ≤ y → J G p l e R s m args below meth c nL oc Xf mc ms X k n tgt lv st) (kf : ¬ x ≤ y → J G p l e R s m args below meth c nL oc Xf mc ms X k n (pc + 3) lv st) : J G p l e R s m args below meth c nL oc Xf mc ms X k n pc lv (.int y :: .int x :: st) := fun H locs ls hR hL hv => lv_icmp_le C.1 C.2.1 hd ht (fun h => kt h H locs ls hR hL hv) (fun h => kf h H locs ls hR hL hv)
theorem j_goto {off : Int} (tgt : Nat) (C : Cx G p R s m args meth c cc own nL ret hh mn) (hd : decode cc pc = .ok (.goto off, 3)) (ht : (pc : Int) + off = (tgt : Int)) (kk : J G p l e R s m args below meth c nL oc Xf mc ms X k n tgt lv st) : J G p l e R s m args below meth c nL oc Xf mc ms X k n pc lv st := fun H locs ls hR hL hv => lv_goto C.1 C.2.1 hd ht (kk H locs ls hR hL hv)
theorem j_tableOut {dflt lo hi : Int} {offs : Array Int} {len : Nat} {x : Int32} (tgt : Nat) (C : Cx G p R s m args meth c cc own nL ret hh mn) (hd : decode cc pc = .ok (.tableswitch dflt lo hi offs, len)) (h : x.toInt < lo ∨ hi < x.toInt) (ht : (pc : Int) + dflt = (tgt : Int)) (kk : J G p l e R s m args below meth c nL oc Xf mc ms X k n tgt lv st) : J G p l e R s m args below meth c nL oc Xf mc ms X k n pc lv (.int x :: st) := fun H locs ls hR hL hv => lv_tableOut C.1 C.2.1 hd h ht (kk H locs ls hR hL hv)
theorem j_tableIn {dflt lo hi : Int} {offs : Array Int} {len : Nat} {x : Int32} {off : Int} (tgt : Nat) (z : Int) (C : Cx G p R s m args meth c cc own nL ret hh mn) (hd : decode cc pc = .ok (.tableswitch dflt lo hi offs, len)) (hz : x.toInt = z) (h1 : ¬ z < lo) (h2 : ¬ hi < z) (ho : offs[(z - lo).toNat]? = some off) (ht : (pc : Int) + off = (tgt : Int)) (kk : J G p l e R s m args below meth c nL oc Xf mc ms X k n tgt lv st) : J G p l e R s m args below meth c nL oc Xf mc ms X k n pc lv (.int x :: st) := fun H locs ls hR hL hv => lv_tableIn C.1 C.2.1 hd (by rw [hz]; exact h1) (by rw [hz]; exact h2) (by rw [hz]; exact ho) ht (kk H locs ls hR hL hv)
theorem j_lookup {dflt : Int} {ps : Array (Int × Int)} {len : Nat} {x : Int32} {off : Int} (tgt : Nat) (C : Cx G p R s m args meth c cc own nL ret hh mn) (hd : decode cc pc = .ok (.lookupswitch dflt ps, len)) (hp : (ps.toList.zip (ps.toList.drop 1)).all (fun (a, next) => a.1 < next.1) = true) (ho : Op.lookupswitch.offset ps.toList dflt x.toInt = off) (ht : (pc : Int) + off = (tgt : Int)) (kk : J G p l e R s m args below meth c nL oc Xf mc ms X k n tgt lv st) : J G p l e R s m args below meth c nL oc Xf mc ms X k n pc lv (.int x :: st) := fun H locs ls hR hL hv => lv_lookup C.1 C.2.1 hd hp ho ht (kk H locs ls hR hL hv)
theorem cl_lt {q : Nat} {r : vw_C} (h : vwCl[q]? = some r) : q < 100 := by
  have := (List.getElem?_eq_some_iff.mp h).1
  exact Nat.lt_of_lt_of_le this (by decide)
/-- a field of a class by its place -/
def FD (c k : Nat) (ref nm ds : String) (fin isr : Bool) (ty : FieldType) : Prop := ∃ r : vw_C, vwCl[c]? = some r ∧ k < r.2.2 ∧ r.2.1 k = (ref, nm, ds, fin) ∧ isR c k = isr ∧ parseFieldDescriptor ds = some ty
theorem RelX.objS {H : Heap} {a c2 : Nat} {r : vw_C} (hR : RelX G X H) (ho : obw X.1 a c2) (hc : vwCl[c2]? = some r) : t_OB (wad G a) ((gD G).1 c2) r.2.2 ((gD G).2 c2) H (fvx G X a c2) := by
  obtain ⟨r', g1, g2⟩ := ((hR.2.2.2 a (Or.inl ho.1)).1 (Nat.lt_of_lt_of_le ho.1 hR.1.2)).1 (by rw [ho.2]; exact cl_lt hc)
  rw [ho.2] at g1 g2
  cases g1.symm.trans hc
  exact g2
theorem RelX.obj {H : Heap} {a c2 : Nat} {r : vw_C} (hR : RelX G X H) (ho : ob X.1 a c2) (hc : vwCl[c2]? = some r) : t_OBw (wad G a) ((gD G).1 c2) r.2.2 ((gD G).2 c2) H (fvx G X a c2) := by
  rcases ho with ⟨h1 | h1, h2⟩
  · exact (hR.objS ⟨h1, h2⟩ hc).weak
  · obtain ⟨r', g1, g2⟩ := ((hR.2.2.2 a (Or.inr h1)).2 h1.1).1 (by rw [h2]; exact cl_lt hc)
    rw [h2] at g1 g2
    cases g1.symm.trans hc
    exact g2
theorem RelX.arrIS {H : Heap} {a t q : Nat} (hR : RelX G X H) (ha : arw X.1 a t q) (h1 : 100 ≤ t) (h2 : t < 200) : H[wad G a]? = some (arrV (gA G t) q (fun j => .int (X.2 a j))) := by
  have h := ((hR.2.2.2 a (Or.inl ha.1)).1 (Nat.lt_of_lt_of_le ha.1 hR.1.2)).2.1
  rw [ha.2] at h
  exact h h1 h2
theorem RelX.arrRS {H : Heap} {a t q : Nat} (hR : RelX G X H) (ha : arw X.1 a t q) (h1 : 200 ≤ t) : H[wad G a]? = some (arrV (gA G t) q (fun j => va_rf ((X.1.2.2 a j).map (wad G)))) := by
  have h := ((hR.2.2.2 a (Or.inl ha.1)).1 (Nat.lt_of_lt_of_le ha.1 hR.1.2)).2.2
  rw [ha.2] at h
  exact h h1
theorem RelX.arrI {H : Heap} {a t q : Nat} (hR : RelX G X H) (ha : ar X.1 a t q) (h1 : 100 ≤ t) (h2 : t < 200) : arrW (wad G a) (gA G t) q (fun j => .int (X.2 a j)) H := by
  rcases ha with ⟨g1 | g1, g2⟩
  · exact arrW.of (hR.arrIS ⟨g1, g2⟩ h1 h2)
  · have h := ((hR.2.2.2 a (Or.inr g1)).2 g1.1).2.1
    rw [g2] at h
    exact h h1 h2
theorem RelX.arrR {H : Heap} {a t q : Nat} (hR : RelX G X H) (ha : ar X.1 a t q) (h1 : 200 ≤ t) : arrW (wad G a) (gA G t) q (fun j => va_rf ((X.1.2.2 a j).map (wad G))) H := by
  rcases ha with ⟨g1 | g1, g2⟩
  · exact arrW.of (hR.arrRS ⟨g1, g2⟩ h1)
  · have h := ((hR.2.2.2 a (Or.inr g1)).2 g1.1).2.2
    rw [g2] at h
    exact h h1
theorem ArrOfT.weak {s : State} {cA : ClassId} {ty : FieldType} (h : ArrOfT s cA ty) {cell : Cell} (h1 : cell.cls = cA) (h2 : ∀ q, cell.vm ≠ .statics q) : s.isArrayOf cell ty := ⟨h2, by rw [h1]; exact (h 0 (fun _ => .null)).2⟩
theorem j_get {a c2 kf idx : Nat} {ref nm ds : String} {fin isr : Bool} {ty : FieldType} (C : Cx G p R s m args meth c cc own nL ret hh mn) (hF : FD c2 kf ref nm ds fin isr ty) (hl : (Cond.fieldLink own idx ref nm ds).before args s = true) (ho : ob X.1 a c2) (hd : decode cc pc = .ok (.getfield idx, 3)) (kk : J G p l e R s m args below meth c nL oc Xf mc ms X k n (pc + 3) lv (fvx G X a c2 kf :: st)) : J G p l e R s m args below meth c nL oc Xf mc ms X k n pc lv (.ref (wad G a) :: st) := by
  intro H locs ls hR hL hv
  obtain ⟨r, hc, hk, hT, -, -⟩ := hF
  obtain ⟨cell, q1, q2, q3, q4⟩ := hR.obj ho hc
  obtain ⟨hin, -, -⟩ := cl_ok _ _ hc
  obtain ⟨hS, hfc, kC, hkC, hkind⟩ := C.2.2.2.2.2.2.1.1.1 c2 _ hc
  obtain ⟨cf, kf', fi, f, hi, hsl⟩ := hS kf hk
  rw [hT] at hi
  have hst := (u_facts hfc hkC (u_lays C.2.2.2.2.1 hin hk) (by rw [hT]; exact hi)).1
  exact W.getf C.1 C.2.1 C.2.2.2.1 hl hi hst q1 q3.1 (v := fvx G X a c2 kf) (by rw [hsl]; exact q4 kf hk) rfl rfl hd (kk H locs ls hR hL hv)
theorem j_getI {a c2 kf idx : Nat} {ref nm ds : String} {fin : Bool} {ty : FieldType} (C : Cx G p R s m args meth c cc own nL ret hh mn) (hF : FD c2 kf ref nm ds fin false ty) (hl : Cond.fieldLink own idx ref nm ds ∈ lw_all) (ho : obw sh a c2) (hd : decode cc pc = .ok (.getfield idx, 3)) (kk : J G p l e R s m args below meth c nL oc Xf mc ms (sh, I) k n (pc + 3) lv (.int (I a kf) :: st)) : J G p l e R s m args below meth c nL oc Xf mc ms (sh, I) k n pc lv (.ref (wad G a) :: st) := by
  refine j_get (X := (sh, I)) C hF (C.2.2.2.2.1 _ hl) ho.r hd ?_
  obtain ⟨r, hc, hk, hT, h5, -⟩ := hF
  rw [show fvx G (sh, I) a c2 kf = .int (I a kf) by simp [fvx, h5]]
  exact kk
theorem j_getR {a c2 kf idx t : Nat} {ref nm ds : String} {fin : Bool} {ty : FieldType} (C : Cx G p R s m args meth c cc own nL ret hh mn) (hF : FD c2 kf ref nm ds fin true ty) (hl : Cond.fieldLink own idx ref nm ds ∈ lw_all) (ho : obw sh a c2) (ht : rf sh a kf t) (hd : decode cc pc = .ok (.getfield idx, 3)) (kk : J G p l e R s m args below meth c nL oc Xf mc ms (sh, I) k n (pc + 3) lv (.ref (wad G t) :: st)) : J G p l e R s m args below meth c nL oc Xf mc ms (sh, I) k n pc lv (.ref (wad G a) :: st) := by
  refine j_get (X := (sh, I)) C hF (C.2.2.2.2.1 _ hl) ho.r hd ?_
  obtain ⟨r, hc, hk, hT, h5, -⟩ := hF
  have ht' : sh.2.2 a kf = some t := ht
  rw [show fvx G (sh, I) a c2 kf = .ref (wad G t) by simp [fvx, h5, ht', va_rf]]
  exact kk
theorem fvx_up2 {a c2 kf j : Nat} {v : Int32} (h : isR c2 kf = false) : updV (fvx G (sh, I) a c2) kf (.int v) j = fvx G (sh, up2 I a kf v) a c2 j := by
  unfold updV fvx
  by_cases e : j = kf
  · subst e
    simp [h, up2_s, upd]
  · simp [e, up2_s, upd]
theorem RelX.putI {H H1 : Heap} {a kf : Nat} {v : Int32} (hR : RelX G (sh, I) H) (haX : a < sh.1) (hz : H1.size = H.size) (oq : ∀ q : Nat, q ≠ wad G a → H1[q]? = H[q]?) (ha : atx G (sh, up2 I a kf v) H1 a) : RelX G (sh, up2 I a kf v) H1 :=
  RelX.upd (X := (sh, I)) hR haX rfl (fun x hx => ⟨rfl, rfl, up2_n hx⟩) hz oq ha
theorem j_putI {a c2 kf idx : Nat} {v : Int32} {ref nm ds : String} {ty : FieldType} (C : Cx G p R s m args meth c cc own nL ret hh mn) (hF : FD c2 kf ref nm ds false false ty) (hl : (Cond.fieldLink own idx ref nm ds).before args s = true) (ho : obw sh a c2) (hn9 : narrow ty (.int v) = .int v) (hf9 : fits ty (.int v) = true) (hd : decode cc pc = .ok (.putfield idx, 3)) (kk : J G p l e R s m args below meth c nL oc Xf mc ms (sh, up2 I a kf v) k n (pc + 3) lv st) : J G p l e R s m args below meth c nL oc Xf mc ms (sh, I) k n pc lv (.int v :: .ref (wad G a) :: st) := by
  intro H locs ls hR hL hv
  obtain ⟨r, hc, hk, hT, h5, h6⟩ := hF
  obtain ⟨cell, q1, q2, q3, q4⟩ := hR.objS ho hc
  obtain ⟨hin, hnm, ty0, hty⟩ := cl_ok _ _ hc
  have hap := va_apart (own := own) C.2.2.2.2.1 hin ty0 hty hnm C.2.2.2.2.2.2.1.1 hc
  obtain ⟨hS, hfc, kC, hkC, hkind⟩ := C.2.2.2.2.2.2.1.1.1 c2 _ hc
  obtain ⟨cf, kf', fi, f, hi, hsl⟩ := hS kf hk
  have hlay := C.2.2.2.2.1 _ (hin _ (u_in_lay hk))
  have hst := (u_facts hfc hkC (u_lays C.2.2.2.2.1 hin hk) hi).1
  unfold u_lay at hlay
  rw [hT] at hlay hi
  rw [if_neg (show ¬ (false = true) from Bool.false_ne_true)] at hlay
  have h7 := u_store hfc hkC hkind hlay hi h6 hn9 hf9
  refine W.putK C.1 C.2.1 (f := f) ⟨C.2.2.2.1, hl, ⟨_, _, _, hi⟩, hst⟩ (by rw [q2]; exact h7) q1 q3 (by rw [hsl]; exact k2_hasslot (q4 kf hk)) rfl rfl hd fun H' e1 e2 e3 => ?_
  rw [hsl] at e1 ⊢
  have h100 := cl_lt hc
  refine kk H' _ ls (hR.putI ho.1 e2 e3 ⟨fun h => ?_, fun h => ?_, fun h => ?_⟩) (t_lc hL (by rw [hR.ad ho.1]; exact Nat.le_add_right _ _)) hv
  · have e9 : ((sh, up2 I a kf v) : XX).1.2.1 a = sh.2.1 a := rfl
    rw [e9, ho.2]
    exact ⟨r, hc, t_OB.to (V := updV (fvx G (sh, I) a c2) kf (.int v)) ⟨_, e1, q2, q3, t_set q4 hap hk _⟩ (fun j _ => fvx_up2 h5)⟩
  · exact absurd (show 100 ≤ (sh.2.1 a).1 from h) (by rw [ho.2]; omega)
  · exact absurd (show 200 ≤ (sh.2.1 a).1 from h) (by rw [ho.2]; omega)
theorem j_iald {a q j : Nat} {i : Int32} (C : Cx G p R s m args meth c cc own nL ret hh mn) (ha : arw sh a 100 q) (hin : vp_in i q) (hj : j = i.toNatClampNeg) (hd : decode cc pc = .ok (.iaload, 1)) (kk : J G p l e R s m args below meth c nL oc Xf mc ms (sh, I) k n (pc + 1) lv (.int (I a j) :: st)) : J G p l e R s m args below meth c nL oc Xf mc ms (sh, I) k n pc lv (.int i :: .ref (wad G a) :: st) := by
  intro H locs ls hR hL hv
  subst hj
  have hlt : i.toNatClampNeg < q := Nat.not_le.mp fun h => hin (Or.inr h)
  exact W.iald (v := .int (I a i.toNatClampNeg)) C.1 C.2.1 (hR.arrIS ha (by decide) (by decide)) ((C.2.2.2.2.2.2.1.1.2 0 _ rfl).1 q _) (fun q => by cases q) (by rw [arrV_size]; exact hin) (by rw [arrV_read _ _ hlt]) rfl rfl hd (kk H locs ls hR hL hv)
theorem j_iast {a q j : Nat} {i v : Int32} (C : Cx G p R s m args meth c cc own nL ret hh mn) (ha : arw sh a 100 q) (hin : vp_in i q) (hj : j = i.toNatClampNeg) (hd : decode cc pc = .ok (.iastore, 1)) (kk : J G p l e R s m args below meth c nL oc Xf mc ms (sh, up2 I a j v) k n (pc + 1) lv st) : J G p l e R s m args below meth c nL oc Xf mc ms (sh, I) k n pc lv (.int v :: .int i :: .ref (wad G a) :: st) := by
  intro H locs ls hR hL hv
  subst hj
  refine W.iast C.1 C.2.1 (hR.arrIS ha (by decide) (by decide)) ((C.2.2.2.2.2.2.1.1.2 0 _ rfl).1 q _) (fun q => by cases q) (by rw [arrV_size]; exact hin) rfl rfl hd fun H' e1 e2 e3 => ?_
  have h2 := ha.2
  refine kk H' _ ls (hR.putI ha.1 e2 e3 ⟨fun h => ?_, fun h h' => ?_, fun h => ?_⟩) (t_lc hL (by rw [hR.ad ha.1]; exact Nat.le_add_right _ _)) hv
  · exact absurd (show (sh.2.1 a).1 < 100 from h) (by rw [h2]; exact (by decide : ¬ (100 < 100)))
  · show H'[wad G a]? = some (arrV (gA G (sh.2.1 a).1) (sh.2.1 a).2 (fun j => .int (up2 I a i.toNatClampNeg v a j)))
    rw [h2, e1, arrV_store]
    congr 2
    funext j
    unfold updV
    by_cases e : j = i.toNatClampNeg
    · subst e
      simp [up2_s, upd]
    · simp [e, up2_s, upd]
  · exact absurd (show 200 ≤ (sh.2.1 a).1 from h) (by rw [h2]; exact (by decide : ¬ (200 ≤ 100)))
theorem j_alen {a t q : Nat} (C : Cx G p R s m args meth c cc own nL ret hh mn) (ha : arw sh a t q) (ht : t = 100 ∨ t = 101 ∨ t = 102) (hd : decode cc pc = .ok (.arraylength, 1)) (kk : J G p l e R s m args below meth c nL oc Xf mc ms (sh, I) k n (pc + 1) lv (.int (nI q) :: st)) : J G p l e R s m args below meth c nL oc Xf mc ms (sh, I) k n pc lv (.ref (wad G a) :: st) := by
  intro H locs ls hR hL hv
  rcases ht with rfl | rfl | rfl
  · exact W.alen (n := nI q) C.1 C.2.1 (hR.arrIS ha (by decide) (by decide)) ((C.2.2.2.2.2.2.1.1.2 0 _ rfl).1 q _) (by rw [arrV_size]; rfl) rfl rfl hd (kk H locs ls hR hL hv)
  · exact W.alen (n := nI q) C.1 C.2.1 (hR.arrIS ha (by decide) (by decide)) ((C.2.2.2.2.2.2.1.1.2 1 _ rfl).1 q _) (by rw [arrV_size]; rfl) rfl rfl hd (kk H locs ls hR hL hv)
  · exact W.alen (n := nI q) C.1 C.2.1 (hR.arrIS ha (by decide) (by decide)) ((C.2.2.2.2.2.2.1.1.2 2 _ rfl).1 q _) (by rw [arrV_size]; rfl) rfl rfl hd (kk H locs ls hR hL hv)
/-- a call's run, by a contract -/
theorem j_run {rm : Room} {v : Option Value} {X' : XX} {As rest : List Value} {a9 : Array Value} (hr : ∀ H locs (ls : Array Slot), RelX G X H → ls.size = nL → va_Run p l e R s m args below meth c H locs k n rm.cells rm.slots (F0 m pc ls st) rest (QcX G (.returned v) X' a9) (fun q => gb G ≤ q)) (kk : J G p l e R s m args below meth c nL oc Xf mc ms X' (k + rm.cells) (n + rm.slots) (pc + 3) lv (v.toList ++ rest)) : J G p l e R s m args below meth c nL oc Xf mc ms X k n pc lv st := by
  intro H locs ls hR hL hv T hT X9
  obtain ⟨v', st₀, t, T', L, h0, X', hL', e1, e2, ⟨hv', hq⟩, stp⟩ := hr H locs ls hR hv.1 T hT X9
  cases hv'
  obtain ⟨t2, a1, b1⟩ := kk T'.heap (locs ++ L) ls (by rw [e1]; exact hq) (t_lL hL hL') hv T' rfl X'
  exact ⟨t2, stp t2 a1, b1⟩
abbrev callOK (y : MethodName) (q : Nat) : Prop := y.cls ≠ "java/lang/invoke/MethodHandle" ∧ y.cls ≠ "java/lang/invoke/VarHandle" ∧ (parseMethodDescriptor y.desc).map (fun d => d.parameters.length) = some q
/-- what is known of a method: static -/
def MS (y : MethodName) (b : ByteArray) (L : Nat) (r : Option FieldType) (q : Nat) : Prop := Cond.static y ∈ lw_all ∧ Cond.initialized y.cls ∈ lw_all ∧ Cond.code y b L r ∈ lw_all ∧ callOK y q
/-- what is known of a method: of objects of its own class -/
def MV (y : MethodName) (b : ByteArray) (L : Nat) (r : Option FieldType) (q : Nat) : Prop := Cond.instanceMethod y ∈ lw_all ∧ Cond.selects y.cls y y ∈ lw_all ∧ Cond.initialized y.cls ∈ lw_all ∧ Cond.code y b L r ∈ lw_all ∧ callOK y q
def rmOK (rm R : Room) (L k n : Nat) : Bool := Nat.ble (rm.frames + 1) R.frames && (Nat.ble (8 + (L + 11) + rm.locals) R.locals && (Nat.ble (k + rm.cells) R.cells && Nat.ble (n + rm.slots) R.slots))
theorem rmOK.u {rm R : Room} {L k n : Nat} (h : rmOK rm R L k n = true) : (rm.frames + 1 ≤ R.frames ∧ 8 + (L + 11) + rm.locals ≤ R.locals) ∧ (k + rm.cells ≤ R.cells ∧ n + rm.slots ≤ R.slots) := by
  simp only [rmOK, Bool.and_eq_true] at h
  exact ⟨⟨Nat.le_of_ble_eq_true h.1, Nat.le_of_ble_eq_true h.2.1⟩, Nat.le_of_ble_eq_true h.2.2.1, Nat.le_of_ble_eq_true h.2.2.2⟩
theorem j_callS {rm : Room} {v : Option Value} {X' : XX} {As rest : List Value} {y : MethodName} {b : ByteArray} {L idx q : Nat} {r : Option FieldType} (C : Cx G p R s m args meth c cc own nL ret hh mn) (hM : CT G l y (ws_ y b L r) rm As X (.returned v) X') (hS : MS y b L r q) (hl : Cond.methodLink own idx y ∈ lw_all) (hd : decode cc pc = .ok (.invokestatic idx, 3)) (hq : As.length = q) (hst : st = As.reverse ++ rest) (hW : (rest.map fun v => v.category).sum ≤ 8) (hrm : rmOK rm R L k n = true) (kk : J G p l e R s m args below meth c nL oc Xf mc ms X' (k + rm.cells) (n + rm.slots) (pc + 3) lv (v.toList ++ rest)) : J G p l e R s m args below meth c nL oc Xf mc ms X k n pc lv st := by
  obtain ⟨h1, h2, h3, h4⟩ := hS
  obtain ⟨r1, r2⟩ := rmOK.u hrm
  refine j_run (As := As) (rest := rest) (a9 := As.toArray) (fun H locs ls hR hz => ?_) kk
  refine va_runS (Ts := lw_all) (As := As) (rest := rest) ⟨C.1, C.2.1, C.2.2.1, C.2.2.2.1, C.2.2.2.2.1⟩ hM.met ⟨callB_of q C.2.2.2.2.1 (lw_meth h3) rfl rfl rfl (C.2.2.2.2.1 _ h2) (C.2.2.2.2.1 _ hl) h4 r1, C.2.2.2.2.1 _ h1⟩ ⟨PcX.blind G As X, fun U hU hW => ⟨rfl, by rw [hU]; exact hR, C.2.2.2.2.2.2.1.moved hW⟩⟩ rfl hq hz hst (by show 2 * 0 + _ ≤ 8; omega) hd r2
theorem j_callV {rm : Room} {v : Option Value} {X' : XX} {As rest : List Value} {y : MethodName} {b : ByteArray} {L idx q a c2 : Nat} {r : Option FieldType} {cr : vw_C} (C : Cx G p R s m args meth c cc own nL ret hh mn) (hM : CT G l y (ws_ y b L r) rm (.ref (wad G a) :: As) X (.returned v) X') (hS : MV y b L r q) (ho : obw X.1 a c2) (hc : vwCl[c2]? = some cr) (hcy : cr.1 = y.cls) (hl : Cond.methodLink own idx y ∈ lw_all) (hd : decode cc pc = .ok (.invokevirtual idx, 3)) (hq : As.length = q) (hst : st = As.reverse ++ .ref (wad G a) :: rest) (hW : (rest.map fun v => v.category).sum ≤ 8) (hrm : rmOK rm R L k n = true) (kk : J G p l e R s m args below meth c nL oc Xf mc ms X' (k + rm.cells) (n + rm.slots) (pc + 3) lv (v.toList ++ rest)) : J G p l e R s m args below meth c nL oc Xf mc ms X k n pc lv st := by
  obtain ⟨h1, h2, h3, h4, h5⟩ := hS
  obtain ⟨r1, r2⟩ := rmOK.u hrm
  refine j_run (As := As) (rest := rest) (a9 := (.ref (wad G a) :: As : List Value).toArray) (fun H locs ls hR hz => ?_) kk
  have hob := hR.objS ho hc
  obtain ⟨cell, q1, q2, q3, -⟩ := hob
  obtain ⟨-, hfc, kC, hkC, -⟩ := C.2.2.2.2.2.2.1.1.1 c2 _ hc
  refine va_runV (Ts := lw_all) (C := y.cls) (As := As) (rest := rest) ⟨C.1, C.2.1, C.2.2.1, C.2.2.2.1, C.2.2.2.2.1⟩ hM.met ⟨callB_of q C.2.2.2.2.1 (lw_meth h4) rfl rfl rfl (C.2.2.2.2.1 _ h3) (C.2.2.2.2.1 _ hl) h5 r1, C.2.2.2.2.1 _ h1, C.2.2.2.2.1 _ h2⟩ ⟨PcX.blind G _ X, ⟨cell, q1, by rw [q3]; rfl, by rw [q2, ← hcy]; exact hfc⟩, fun U hU hW => ⟨rfl, by rw [hU]; exact hR, C.2.2.2.2.2.2.1.moved hW⟩⟩ rfl hq hz hst (by show 2 * 0 + _ ≤ 8; omega) hd r2
/-! the plain side's small words -/
def oix {α : Type} (i : Int32) (q : Nat) (f : Nat → Option α) : Option α := if i < 0 ∨ q ≤ i.toNatClampNeg then none else f i.toNatClampNeg
theorem oix_some {α : Type} {i : Int32} {q : Nat} {f : Nat → Option α} {r : α} (h : oix i q f = some r) : vp_in i q ∧ f i.toNatClampNeg = some r := by
  unfold oix at h
  split at h
  · cases h
  · exact ⟨by assumption, h⟩
theorem oix_ex {α : Type} {i : Int32} {q : Nat} {f : Nat → Option α} {r : α} (h : oix i q f = some r) : ∃ j : Nat, j = i.toNatClampNeg ∧ vp_in i q ∧ f j = some r := ⟨_, rfl, oix_some h⟩
theorem oix_in {α : Type} {i q : Nat} {f : Nat → Option α} (h : i < q) (hq : q < 2 ^ 31) : oix (nI i) q f = f i := by
  unfold oix
  rw [if_neg (nI_in h hq), nI_clamp (Nat.lt_trans h hq)]
theorem ob_some {α β : Type} {x : Option α} {f : α → Option β} {r : β} (h : x.bind f = some r) : ∃ a, x = some a ∧ f a = some r := Option.bind_eq_some_iff.mp h
theorem it_t {α : Sort _} {q : Prop} [Decidable q] {a b r : α} (hq : q) (h : (if q then a else b) = r) : a = r := by rwa [if_pos hq] at h
theorem it_f {α : Sort _} {q : Prop} [Decidable q] {a b r : α} (hq : ¬ q) (h : (if q then a else b) = r) : b = r := by rwa [if_neg hq] at h
/-- a 0 or 1 -/
def isB (v : Int32) : Prop := v = 0 ∨ v = 1
theorem isB.nar {v : Int32} (h : isB v) : narrow .boolean (.int v) = .int v := by
  rcases h with rfl | rfl <;> rfl
theorem isB.fit {v : Int32} (h : isB v) : fits .boolean (.int v) = true := by
  rcases h with rfl | rfl <;> rfl
def og {α : Type} (q : Prop) [Decidable q] (f : Option α) : Option α := if q then f else none
theorem og_some {α : Type} {q : Prop} [Decidable q] {f : Option α} {r : α} (h : og q f = some r) : q ∧ f = some r := by
  unfold og at h
  split at h
  · exact ⟨by assumption, h⟩
  · cases h
def bd2 {α β γ : Type} (x : Option (α × β)) (f : α → β → Option γ) : Option γ := x.bind fun q => f q.1 q.2
theorem bd2_some {α β γ : Type} {x : Option (α × β)} {f : α → β → Option γ} {r : γ} (h : bd2 x f = some r) : ∃ a b, x = some (a, b) ∧ f a b = some r := by
  obtain ⟨⟨a, b⟩, h1, h2⟩ := ob_some h
  exact ⟨a, b, h1, h2⟩
def maskL : List Bool → List (Option Value) → List (Option Value)
  | [], _ => []
  | _, [] => []
  | true :: bs, a :: l => a :: maskL bs l
  | false :: bs, _ :: l => none :: maskL bs l
theorem lget_mask : ∀ (bs : List Bool) (lv : List (Option Value)) (q : Nat) (v : Value), lget (maskL bs lv) q = some v → lget lv q = some v
  | [], _, _, _, h => by simp [maskL, lget] at h
  | b :: bs, [], _, _, h => by cases b <;> simp [maskL, lget] at h
  | true :: bs, a :: l, 0, v, h => h
  | true :: bs, a :: l, q + 1, v, h => lget_mask bs l q v h
  | false :: bs, a :: l, 0, v, h => by simp [maskL, lget] at h
  | false :: bs, a :: l, q + 1, v, h => lget_mask bs l q v h
theorem j_mask (bs : List Bool) (kk : J G p l e R s m args below meth c nL oc Xf mc ms X k n pc (maskL bs lv) st) : J G p l e R s m args below meth c nL oc Xf mc ms X k n pc lv st :=
  fun H locs ls hR hL hv => kk H locs ls hR hL ⟨hv.1, hv.2.1, fun q v h => hv.2.2 q v (lget_mask bs lv q v h)⟩
theorem j_lv {lv' : List (Option Value)} (h : lv = lv') (kk : J G p l e R s m args below meth c nL oc Xf mc ms X k n pc lv' st) : J G p l e R s m args below meth c nL oc Xf mc ms X k n pc lv st := by rw [h]; exact kk
theorem sw_out {x : Int32} {lo hi : Nat} (hh : hi < 2 ^ 31) (h : ∀ j : Nat, lo ≤ j → j ≤ hi → ¬ x = nI j) : x.toInt < (lo : Int) ∨ (hi : Int) < x.toInt := by
  by_cases h1 : x.toInt < (lo : Int)
  · exact Or.inl h1
  · by_cases h2 : (hi : Int) < x.toInt
    · exact Or.inr h2
    · exfalso
      have h3 : ¬ x < 0 := by
        rw [Int32.lt_iff_toInt_lt, Int32.toInt_zero]
        omega
      obtain ⟨j, hj, e⟩ := nI_of h3
      have h4 := nI_toInt hj
      rw [← e] at h4
      exact h j (by omega) (by omega) e
theorem sw_in {x : Int32} {j : Nat} (h : x = nI j) (hj : j < 2 ^ 31) : x.toInt = (j : Int) := by rw [h, nI_toInt hj]
theorem rmOK.i {rm R : Room} {L k n : Nat} (h1 : rm.frames + 1 ≤ R.frames) (h2 : 8 + (L + 11) + rm.locals ≤ R.locals) (h3 : k + rm.cells ≤ R.cells) (h4 : n + rm.slots ≤ R.slots) : rmOK rm R L k n = true := by
  simp only [rmOK, Bool.and_eq_true]
  exact ⟨Nat.ble_eq.mpr h1, Nat.ble_eq.mpr h2, Nat.ble_eq.mpr h3, Nat.ble_eq.mpr h4⟩
theorem j_mmin {x y : Int32} {idx : Nat} (C : Cx G p R s m args meth c cc own nL ret hh mn) (hl : Cond.methodLink own idx Lib.Math.min.name ∈ lw_all) (h1 : Cond.static Lib.Math.min.name ∈ lw_all) (h2 : Cond.initialized "java/lang/Math" ∈ lw_all) (h3 : Cond.code Lib.Math.min.name Lib.Math.min.code 2 (some .int) ∈ lw_all) (hd : decode cc pc = .ok (.invokestatic idx, 3)) (hfr : 1 ≤ R.frames) (hlo : (st.map fun v => v.category).sum + 13 ≤ R.locals) (hc : k ≤ R.cells) (hs : n ≤ R.slots) (kk : J G p l e R s m args below meth c nL oc Xf mc ms X k n (pc + 3) lv (.int (if y < x then y else x) :: st)) : J G p l e R s m args below meth c nL oc Xf mc ms X k n pc lv (.int y :: .int x :: st) :=
  fun H locs ls hR hL hv => va_mmin C.1 C.2.1 (C.2.2.1.trans hv.1.symm) C.2.2.2.1 (C.2.2.2.2.1 _ hl) (C.2.2.2.2.1 _ h1) (C.2.2.2.2.1 _ h2) (C.2.2.2.2.1 _ h3) hfr hlo hc hs hd (kk H locs ls hR hL hv)
theorem j_mmax {x y : Int32} {idx : Nat} (C : Cx G p R s m args meth c cc own nL ret hh mn) (hl : Cond.methodLink own idx Lib.Math.max.name ∈ lw_all) (h1 : Cond.static Lib.Math.max.name ∈ lw_all) (h2 : Cond.initialized "java/lang/Math" ∈ lw_all) (h3 : Cond.code Lib.Math.max.name Lib.Math.max.code 2 (some .int) ∈ lw_all) (hd : decode cc pc = .ok (.invokestatic idx, 3)) (hfr : 1 ≤ R.frames) (hlo : (st.map fun v => v.category).sum + 13 ≤ R.locals) (hc : k ≤ R.cells) (hs : n ≤ R.slots) (kk : J G p l e R s m args below meth c nL oc Xf mc ms X k n (pc + 3) lv (.int (if x < y then y else x) :: st)) : J G p l e R s m args below meth c nL oc Xf mc ms X k n pc lv (.int y :: .int x :: st) :=
  fun H locs ls hR hL hv => va_mmax C.1 C.2.1 (C.2.2.1.trans hv.1.symm) C.2.2.2.1 (C.2.2.2.2.1 _ hl) (C.2.2.2.2.1 _ h1) (C.2.2.2.2.1 _ h2) (C.2.2.2.2.1 _ h3) hfr hlo hc hs hd (kk H locs ls hR hL hv)
abbrev rmZ (f lo : Nat) : Room := { frames := f, cells := 0, slots := 0, locals := lo }
theorem j_iretR {v r : Int32} (C : Cx G p R s m args meth c cc own nL (some .int) hh mn) (hd : decode cc pc = .ok (.ireturn, 1)) (hk : k ≤ mc) (hn : n ≤ ms) (he : (some v : Option Int32) = some r) : J G p l e R s m args below meth c nL (.returned (some (.int r))) X mc ms X k n pc lv [.int v] := by
  rw [← Option.some.inj he]; exact j_iret C hd hk hn
theorem j_iretW {v r : Int32} {I9 : II} (C : Cx G p R s m args meth c cc own nL (some .int) hh mn) (hd : decode cc pc = .ok (.ireturn, 1)) (hk : k ≤ mc) (hn : n ≤ ms) (he : (some (v, I) : Option (Int32 × II)) = some (r, I9)) : J G p l e R s m args below meth c nL (.returned (some (.int r))) (sh, I9) mc ms (sh, I) k n pc lv [.int v] := by
  obtain ⟨h1, h2⟩ := Prod.mk.inj (Option.some.inj he)
  rw [← h1, ← h2]; exact j_iret C hd hk hn
theorem j_lretR {v r : Int64} (C : Cx G p R s m args meth c cc own nL (some .long) hh mn) (hd : decode cc pc = .ok (.lreturn, 1)) (hk : k ≤ mc) (hn : n ≤ ms) (he : (some v : Option Int64) = some r) : J G p l e R s m args below meth c nL (.returned (some (.long r))) X mc ms X k n pc lv [.long v] := by
  rw [← Option.some.inj he]; exact j_lret C hd hk hn
theorem j_lretW {v r : Int64} {I9 : II} (C : Cx G p R s m args meth c cc own nL (some .long) hh mn) (hd : decode cc pc = .ok (.lreturn, 1)) (hk : k ≤ mc) (hn : n ≤ ms) (he : (some (v, I) : Option (Int64 × II)) = some (r, I9)) : J G p l e R s m args below meth c nL (.returned (some (.long r))) (sh, I9) mc ms (sh, I) k n pc lv [.long v] := by
  obtain ⟨h1, h2⟩ := Prod.mk.inj (Option.some.inj he)
  rw [← h1, ← h2]; exact j_lret C hd hk hn
theorem j_zretR {v r : Int32} (C : Cx G p R s m args meth c cc own nL (some .boolean) hh mn) (hd : decode cc pc = .ok (.ireturn, 1)) (hk : k ≤ mc) (hn : n ≤ ms) (hb : narrow .boolean (.int v) = .int v) (he : (some v : Option Int32) = some r) : J G p l e R s m args below meth c nL (.returned (some (.int r))) X mc ms X k n pc lv [.int v] := by
  rw [← Option.some.inj he]; exact j_zret C hd hk hn hb
theorem j_zretW {v r : Int32} {I9 : II} (C : Cx G p R s m args meth c cc own nL (some .boolean) hh mn) (hd : decode cc pc = .ok (.ireturn, 1)) (hk : k ≤ mc) (hn : n ≤ ms) (hb : narrow .boolean (.int v) = .int v) (he : (some (v, I) : Option (Int32 × II)) = some (r, I9)) : J G p l e R s m args below meth c nL (.returned (some (.int r))) (sh, I9) mc ms (sh, I) k n pc lv [.int v] := by
  obtain ⟨h1, h2⟩ := Prod.mk.inj (Option.some.inj he)
  rw [← h1, ← h2]; exact j_zret C hd hk hn hb
theorem j_vretW {I9 : II} (C : Cx G p R s m args meth c cc own nL none hh mn) (hd : decode cc pc = .ok (.return_, 1)) (hk : k ≤ mc) (hn : n ≤ ms) (he : (some I : Option II) = some I9) : J G p l e R s m args below meth c nL (.returned none) (sh, I9) mc ms (sh, I) k n pc lv [] := by
  rw [← Option.some.inj he]; exact j_vret C hd hk hn
theorem j_vretR (C : Cx G p R s m args meth c cc own nL none hh mn) (hd : decode cc pc = .ok (.return_, 1)) (hk : k ≤ mc) (hn : n ≤ ms) (he : (some () : Option Unit) = some ()) : J G p l e R s m args below meth c nL (.returned none) X mc ms X k n pc lv [] := j_vret C hd hk hn

end JROWS
