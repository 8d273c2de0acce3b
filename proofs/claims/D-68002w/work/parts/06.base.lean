/-! ===== base: ints by their Int ===== -/
def iI (z : Int) : Int32 := Int32.ofInt z
abbrev rg (z : Int) : Prop := -2147483648 ≤ z ∧ z < 2147483648
theorem iI_toInt {z : Int} (h : rg z) : (iI z).toInt = z := Int32.toInt_ofInt_of_le (by have := h.1; omega) (by have := h.2; omega)
theorem iI_add (a b : Int) : iI a + iI b = iI (a + b) := (Int32.ofInt_add a b).symm
theorem iI_sub (a b : Int) : iI a - iI b = iI (a - b) := (Int32.ofInt_sub a b).symm
theorem iI_mul (a b : Int) : iI a * iI b = iI (a * b) := (Int32.ofInt_mul a b).symm
theorem iI_neg (a : Int) : -iI a = iI (-a) := (Int32.ofInt_neg a).symm
theorem iI_lt {a b : Int} (ha : rg a) (hb : rg b) : iI a < iI b ↔ a < b := by rw [Int32.lt_iff_toInt_lt, iI_toInt ha, iI_toInt hb]
theorem iI_le {a b : Int} (ha : rg a) (hb : rg b) : iI a ≤ iI b ↔ a ≤ b := by rw [Int32.le_iff_toInt_le, iI_toInt ha, iI_toInt hb]
theorem iI_eq {a b : Int} (ha : rg a) (hb : rg b) : iI a = iI b ↔ a = b := ⟨fun h => by have h2 := congrArg Int32.toInt h; rwa [iI_toInt ha, iI_toInt hb] at h2, fun h => by rw [h]⟩
theorem iI_of (x : Int32) : ∃ z, rg z ∧ x = iI z := ⟨x.toInt, ⟨by have := x.le_toInt; omega, by have := x.toInt_lt; omega⟩, (Int32.ofInt_toInt x).symm⟩
theorem iI_nI (n : Nat) : nI n = iI (n : Int) := Int32.ofInt_eq_ofNat.symm
theorem iI_clamp {n : Nat} (h : n < 2147483648) : (iI (n : Int)).toNatClampNeg = n := by rw [← iI_nI]; exact nI_clamp (by omega)
theorem iI_0 : (0 : Int32) = iI 0 := rfl
theorem iI_1 : (1 : Int32) = iI 1 := rfl
theorem iI_ofNat (n : Nat) : Int32.ofNat n = iI (n : Int) := Int32.ofInt_eq_ofNat.symm
theorem iI_in {z : Int} {n : Nat} {i : Nat} (h : z = (i : Int) ∧ i < n ∧ i < 2147483648) : vp_in (iI z) n := by
  obtain ⟨rfl, h1, h2⟩ := h
  rw [← iI_nI]
  intro q
  rcases q with q | q
  · exact nI_pos (by omega) q
  · rw [nI_clamp (by omega)] at q; omega
theorem iI_cl {z : Int} {n : Nat} {i : Nat} (h : z = (i : Int) ∧ i < n ∧ i < 2147483648) : (iI z).toNatClampNeg = i := by
  obtain ⟨rfl, h1, h2⟩ := h
  exact iI_clamp h2
/-! ===== the classes, the arrays, the start ===== -/
abbrev zE : Type := va_G × State
def zcl : List vw_C := [(RX1, TX1, 8), (RX2, TX2, 1), (RX3, TX3, 2), (RX6, TX6, 3), (RX7, TX7, 9), (RX4, TX4, 9), (RX5, TX5, 5), (RX8, TX8, 12), (RJ2, TJ2, 3), (RJ4, TJ4, 4), (RJ5, TJ5, 2), (RJ17, TJ17, 1)]
/-- arrays: 100 bytes, 101 ints, 102 longs, 103 objects, 104 the model's things, 105 rows of ints -/
def zty (D : va_G) : List (ClassId × FieldType) := [(D.1 100, .byte), (D.1 101, .int), (D.1 102, .long), (D.1 103, .object "java/lang/Object"), (D.1 104, .object "VaryStoreModel$Thing"), (D.1 105, .array .int)]
def zOK (G : zE) : Prop := (∃ a : Array Value, (∀ w ∈ lw_tbl, w.before a G.2 = true) ∧ (Jvm.Cond.and given_1 narrow_1).before a G.2 = true) ∧ va_K G.1 zcl (zty G.1) G.2
def KK (G : zE) (U : State) : Prop := zOK G ∧ G.2.WarmedH U.vm
theorem KK.K {G : zE} {U : State} (h : KK G U) : va_K G.1 zcl (zty G.1) U := h.1.2.moved h.2.alike
theorem KK.warm {G : zE} {s U : State} (h : KK G s) (hW : s.WarmedH U.vm) : KK G U := ⟨h.1, h.2.trans hW⟩
theorem KK.same {G : zE} {s U : State} (h : KK G s) (hv : U.vm = s.vm) : KK G U := ⟨h.1, by rw [hv]; exact h.2⟩
/-- an object, for reading and writing -/
def Ob (G : zE) (H : Heap) (a : Nat) (ci : Nat) (vs : List Value) : Prop := va_at G.1 zcl (a, .inr (ci, vs)) H
/-- an array of numbers as Ints (bytes, ints), for reading and writing -/
def Ai (G : zE) (H : Heap) (a : Nat) (k : Nat) (xs : List Int) : Prop := va_at G.1 zcl (a, .inl (G.1.1 k, xs.length, .inl (fun j => iI (xs.getD j 0)))) H
/-- an array of references -/
def Aq (G : zE) (H : Heap) (a : Nat) (k : Nat) (rs : List (Option Nat)) : Prop := va_at G.1 zcl (a, .inl (G.1.1 k, rs.length, .inr (.inr (.inr (.inr (fun j => rs.getD j none)))))) H
theorem Ob.lt {G : zE} {H : Heap} {a ci : Nat} {vs : List Value} (h : Ob G H a ci vs) : a < H.size := va_at.lt h
theorem Ai.lt {G : zE} {H : Heap} {a k : Nat} {xs : List Int} (h : Ai G H a k xs) : a < H.size := va_at.lt h
theorem Aq.lt {G : zE} {H : Heap} {a k : Nat} {rs : List (Option Nat)} (h : Aq G H a k rs) : a < H.size := va_at.lt h
theorem Ob.kept {G : zE} {H H1 : Heap} {a ci : Nat} {vs : List Value} (h : Ob G H a ci vs) (e : H1[a]? = H[a]?) : Ob G H1 a ci vs := va_at.kept h e
theorem Ai.kept {G : zE} {H H1 : Heap} {a k : Nat} {xs : List Int} (h : Ai G H a k xs) (e : H1[a]? = H[a]?) : Ai G H1 a k xs := va_at.kept h e
theorem Aq.kept {G : zE} {H H1 : Heap} {a k : Nat} {rs : List (Option Nat)} (h : Aq G H a k rs) (e : H1[a]? = H[a]?) : Aq G H1 a k rs := va_at.kept h e
/-- the heap grew; what was there is as it was -/
def Ext (H H1 : Heap) : Prop := H.size ≤ H1.size ∧ ∀ q : Nat, q < H.size → H1[q]? = H[q]?
theorem Ext.rf {H : Heap} : Ext H H := ⟨Nat.le_refl _, fun _ _ => rfl⟩
theorem Ext.trans {H H1 H2 : Heap} (h : Ext H H1) (h2 : Ext H1 H2) : Ext H H2 := ⟨Nat.le_trans h.1 h2.1, fun q hq => (h2.2 q (Nat.lt_of_lt_of_le hq h.1)).trans (h.2 q hq)⟩
theorem Ob.ext {G : zE} {H H1 : Heap} {a ci : Nat} {vs : List Value} (h : Ob G H a ci vs) (e : Ext H H1) : Ob G H1 a ci vs := h.kept (e.2 a h.lt)
theorem Ai.ext {G : zE} {H H1 : Heap} {a k : Nat} {xs : List Int} (h : Ai G H a k xs) (e : Ext H H1) : Ai G H1 a k xs := h.kept (e.2 a h.lt)
theorem Aq.ext {G : zE} {H H1 : Heap} {a k : Nat} {rs : List (Option Nat)} (h : Aq G H a k rs) (e : Ext H H1) : Aq G H1 a k rs := h.kept (e.2 a h.lt)
/-- the cells that a method may write that writes none of the old ones -/
abbrev Pur (H : Heap) : Nat → Prop := fun q => H.size ≤ q
theorem Ext.ofS {H0 H : Heap} {locs : List Loc} (h : va_S (Pur H0) H0 H locs) : Ext H0 H := ⟨h.1, fun q hq => h.2.1 q hq (Nat.not_le.mpr hq)⟩
theorem Ext.of {H H1 : Heap} {A : Nat → Prop} (h1 : H.size ≤ H1.size) (h2 : ∀ q : Nat, q < H.size → ¬ A q → H1[q]? = H[q]?) (hA : ∀ q : Nat, A q → H.size ≤ q) : Ext H H1 := ⟨h1, fun q hq => h2 q hq (fun z => Nat.not_le.mpr hq (hA q z))⟩
theorem va1 {D : va_G} {cl : List vw_C} {q : Nat × va_E} {H : Heap} (h : va_at D cl q H) : va_P D cl [q] H := by
  intro k x hk
  match k, hk with
  | 0, hk => cases hk; exact h
  | k + 1, hk => simp at hk
theorem va1D {A : Nat → Prop} {q : Nat × va_E} (h : A q.1) : va_D A [q] := by
  refine ⟨fun i j x y hi hj _ => ?_, fun k x hk => ?_⟩
  · have h1 := (List.getElem?_eq_some_iff.mp hi).1
    have h2 := (List.getElem?_eq_some_iff.mp hj).1
    simp at h1 h2
    omega
  · match k, hk with
    | 0, hk => cases hk; exact h
    | k + 1, hk => simp at hk
theorem va1at {D : va_G} {cl : List vw_C} {q : Nat × va_E} {H : Heap} (h : va_P D cl [q] H) : va_at D cl q H := h 0 q rfl
/-! ===== a method's place ===== -/
def zC (p : Program) (s : State) (m : MethodId) (args : Array Value) (meth : Method) (c : Code) (cc : ByteArray) (own : String) (nL : Nat) (ret : Option FieldType) (G : zE) (H0 : Heap) : Prop :=
  p.tables.exec = Jvm.exec ∧ c.code = cc ∧ c.maxLocals = nL ∧ s.vm.findClass own = some m.cls ∧ (∀ w ∈ lw_all, w.before args s = true) ∧ meth.sig.returnType = ret ∧ meth.locks = false ∧ KK G s ∧ s.heap = H0
def zQ (oc : Outcome → Heap → Prop) (A : Nat → Prop) : Array Value → State → Outcome → State → Prop := fun _ st o t => oc o t.heap ∧ va_F A st t
def zR (G : zE) (l : Launch) (y : MethodName) (ws : List Cond) (F Lw mc ms : Nat) (as : List Value) (H0 : Heap) (post : Value → Heap → Prop) (A : Nat → Prop) : Prop :=
  Met l y ws ⟨F, mc, ms, Lw⟩ (fun v U => v = as.toArray ∧ U.heap = H0 ∧ KK G U) (zQ (fun o H1 => ∃ r : Value, o = .returned (some r) ∧ post r H1) A) mc ms A
def zV (G : zE) (l : Launch) (y : MethodName) (ws : List Cond) (F Lw mc ms : Nat) (as : List Value) (H0 : Heap) (post : Heap → Prop) (A : Nat → Prop) : Prop :=
  Met l y ws ⟨F, mc, ms, Lw⟩ (fun v U => v = as.toArray ∧ U.heap = H0 ∧ KK G U) (zQ (fun o H1 => o = .returned none ∧ post H1) A) mc ms A
theorem zblind {as : List Value} {H0 : Heap} {G : zE} : FrameBlind (fun v U => v = as.toArray ∧ U.heap = H0 ∧ KK G U) := fun _ _ _ _ h => h
abbrev zRQ (below : List Frame) (post : Value → Heap → Prop) (A : Nat → Prop) (args : Array Value) (s : State) (mc ms : Nat) : State → Prop := MQ below (zQ (fun o H1 => ∃ r : Value, o = .returned (some r) ∧ post r H1) A) args s mc ms A
abbrev zVQ (below : List Frame) (post : Heap → Prop) (A : Nat → Prop) (args : Array Value) (s : State) (mc ms : Nat) : State → Prop := MQ below (zQ (fun o H1 => o = .returned none ∧ post H1) A) args s mc ms A
section ZS
variable {l : Launch} {y : MethodName} {cc : ByteArray} {nL : Nat} {ret : Option FieldType} {F Lw mc ms : Nat} {as : List Value} {H0 : Heap} {A : Nat → Prop} {G : zE}
theorem zMet {Qc : Array Value → State → Outcome → State → Prop} (hy : plainName y.cls = true) (hn : (lg_sl as).length ≤ nL)
    (body : ∀ (p : Program) (e : Env) (s : State) (m : MethodId) (args : Array Value) (below : List Frame) (meth : Method) (c : Code) (Q : State → Prop), zC p s m args meth c cc y.cls nL ret G H0 → Q = MQ below Qc args s mc ms A → meth.name = y.name → ∀ ls : Array Slot, lv_has ls nL (lv_args 0 as) →
      W p l e ⟨F, mc, ms, Lw⟩ s m args below meth c H0 [] 0 0 Q (F0 m 0 ls [])) :
    Met l y (ws_ y cc nL ret) ⟨F, mc, ms, Lw⟩ (fun v U => v = as.toArray ∧ U.heap = H0 ∧ KK G U) Qc mc ms A := by
  refine Met.ofW (cc := cc) (maxL := nL) (ret := ret) hy rfl ?_
  intro p e s m args below meth c s₁ B hml hv
  obtain ⟨rfl, hH, hK⟩ := hv
  have hts := atoms_spec (ws := ws_ y cc nL ret) B.pre
  have hts : ∀ w ∈ lw_all, w.before _ s = true := fun w h => hts w (List.mem_cons_of_mem _ h)
  have hl := lv_entry as (n := nL) hn
  rw [lg_entry_eq]
  rw [hH]
  exact body p e s m _ below meth c _ ⟨B.exec, B.bytes, hml, findClass_of_methodNamed B.named, hts, B.returns, B.notSynchronized, hK, hH⟩ rfl (name_of_methodNamed B.named B.method).1 _ hl
theorem zR.start {post : Value → Heap → Prop} (hy : plainName y.cls = true) (hn : (lg_sl as).length ≤ nL)
    (body : ∀ (p : Program) (e : Env) (s : State) (m : MethodId) (args : Array Value) (below : List Frame) (meth : Method) (c : Code) (Q : State → Prop), zC p s m args meth c cc y.cls nL ret G H0 → Q = zRQ below post A args s mc ms → meth.name = y.name → ∀ ls : Array Slot, lv_has ls nL (lv_args 0 as) →
      W p l e ⟨F, mc, ms, Lw⟩ s m args below meth c H0 [] 0 0 Q (F0 m 0 ls [])) : zR G l y (ws_ y cc nL ret) F Lw mc ms as H0 post A := zMet hy hn body
theorem zV.start {post : Heap → Prop} (hy : plainName y.cls = true) (hn : (lg_sl as).length ≤ nL)
    (body : ∀ (p : Program) (e : Env) (s : State) (m : MethodId) (args : Array Value) (below : List Frame) (meth : Method) (c : Code) (Q : State → Prop), zC p s m args meth c cc y.cls nL ret G H0 → Q = zVQ below post A args s mc ms → meth.name = y.name → ∀ ls : Array Slot, lv_has ls nL (lv_args 0 as) →
      W p l e ⟨F, mc, ms, Lw⟩ s m args below meth c H0 [] 0 0 Q (F0 m 0 ls [])) : zV G l y (ws_ y cc nL ret) F Lw mc ms as H0 post A := zMet hy hn body
end ZS
section ZR
variable {p : Program} {l : Launch} {e : Env} {F Lw mc ms : Nat} {s : State} {m : MethodId} {args : Array Value} {below : List Frame} {meth : Method} {c : Code} {H : Heap} {locs : List Loc} {k n : Nat} {Q : State → Prop}
variable {cc : ByteArray} {pc : Nat} {ls : Array Slot} {rest : List Value} {own : String} {nL : Nat} {ret : Option FieldType} {G : zE} {H0 : Heap} {A : Nat → Prop}
/-! ends -/
theorem zF (cx : zC p s m args meth c cc own nL ret G H0) (hS : va_S A H0 H locs) {t : State} (ht : t.heap = H) : va_F A s t := by
  obtain ⟨-, -, -, -, -, -, -, -, hH⟩ := cx
  subst hH
  exact hS.F ht
theorem z_iret (cx : zC p s m args meth c cc own nL ret G H0) {v : Int32} {post : Value → Heap → Prop} {ty : FieldType} (hQ : Q = zRQ below post A args s mc ms) (hret : ret = some ty) (hn : narrow ty (.int v) = .int v) (hp : post (.int v) H) (hS : va_S A H0 H locs) (hk : k ≤ mc ∧ n ≤ ms) (d : decode cc pc = .ok (.ireturn, 1)) :
    W p l e ⟨F, mc, ms, Lw⟩ s m args below meth c H locs k n Q (F0 m pc ls [.int v]) := by
  subst hQ
  refine W.widen hk.1 hk.2 ?_
  exact W.zret (hlocks := cx.2.2.2.2.2.2.1) cx.1 cx.2.1 (cx.2.2.2.2.2.1.trans hret) hn (fun t ht _ => ⟨⟨_, rfl, by rw [ht]; exact hp⟩, zF cx hS ht⟩) hS.2.2 d
theorem z_aret (cx : zC p s m args meth c cc own nL ret G H0) {a : Nat} {post : Value → Heap → Prop} {rt : FieldType} (hQ : Q = zRQ below post A args s mc ms) (hret : ret = some rt) (hrt : (∃ n, rt = .object n) ∨ ∃ t, rt = .array t) (hp : post (.ref a) H) (hS : va_S A H0 H locs) (hk : k ≤ mc ∧ n ≤ ms) (d : decode cc pc = .ok (.areturn, 1)) :
    W p l e ⟨F, mc, ms, Lw⟩ s m args below meth c H locs k n Q (F0 m pc ls [.ref a]) := by
  subst hQ
  refine W.widen hk.1 hk.2 ?_
  exact W.aret (hlocks := cx.2.2.2.2.2.2.1) cx.1 cx.2.1 (cx.2.2.2.2.2.1.trans hret) hrt (Or.inr ⟨a, rfl⟩) (fun t ht _ => ⟨⟨_, rfl, by rw [ht]; exact hp⟩, zF cx hS ht⟩) hS.2.2 d
theorem z_nret (cx : zC p s m args meth c cc own nL ret G H0) {post : Value → Heap → Prop} {rt : FieldType} (hQ : Q = zRQ below post A args s mc ms) (hret : ret = some rt) (hrt : (∃ n, rt = .object n) ∨ ∃ t, rt = .array t) (hp : post .null H) (hS : va_S A H0 H locs) (hk : k ≤ mc ∧ n ≤ ms) (d : decode cc pc = .ok (.areturn, 1)) :
    W p l e ⟨F, mc, ms, Lw⟩ s m args below meth c H locs k n Q (F0 m pc ls [.null]) := by
  subst hQ
  refine W.widen hk.1 hk.2 ?_
  exact W.aret (hlocks := cx.2.2.2.2.2.2.1) cx.1 cx.2.1 (cx.2.2.2.2.2.1.trans hret) hrt (Or.inl rfl) (fun t ht _ => ⟨⟨_, rfl, by rw [ht]; exact hp⟩, zF cx hS ht⟩) hS.2.2 d
theorem z_vret (cx : zC p s m args meth c cc own nL ret G H0) {post : Heap → Prop} (hQ : Q = zVQ below post A args s mc ms) (hret : ret = none) (hp : post H) (hS : va_S A H0 H locs) (hk : k ≤ mc ∧ n ≤ ms) (d : decode cc pc = .ok (.return_, 1)) :
    W p l e ⟨F, mc, ms, Lw⟩ s m args below meth c H locs k n Q (F0 m pc ls []) := by
  subst hQ
  refine W.widen hk.1 hk.2 ?_
  exact W.vret (hlocks := cx.2.2.2.2.2.2.1) cx.1 cx.2.1 (cx.2.2.2.2.2.1.trans hret) (fun t ht _ => ⟨⟨rfl, by rw [ht]; exact hp⟩, zF cx hS ht⟩) hS.2.2 d
/-! arithmetic -/
theorem z_iadd (cx : zC p s m args meth c cc own nL ret G H0) {a b z : Int} (d : decode cc pc = .ok (.iadd, 1)) (hz : a + b = z) (kk : W p l e ⟨F, mc, ms, Lw⟩ s m args below meth c H locs k n Q (F0 m (pc + 1) ls (.int (iI z) :: rest))) :
    W p l e ⟨F, mc, ms, Lw⟩ s m args below meth c H locs k n Q (F0 m pc ls (.int (iI b) :: .int (iI a) :: rest)) := by
  refine lv_iadd cx.1 cx.2.1 d ?_
  first | (rw [iI_add, hz]; exact kk) | (rw [iI_add, Int.add_comm, hz]; exact kk)
theorem z_isub (cx : zC p s m args meth c cc own nL ret G H0) {a b z : Int} (d : decode cc pc = .ok (.isub, 1)) (hz : a - b = z) (kk : W p l e ⟨F, mc, ms, Lw⟩ s m args below meth c H locs k n Q (F0 m (pc + 1) ls (.int (iI z) :: rest))) :
    W p l e ⟨F, mc, ms, Lw⟩ s m args below meth c H locs k n Q (F0 m pc ls (.int (iI b) :: .int (iI a) :: rest)) := by
  refine lv_isub cx.1 cx.2.1 d ?_
  rw [iI_sub, hz]; exact kk
theorem z_imul (cx : zC p s m args meth c cc own nL ret G H0) {a b z : Int} (d : decode cc pc = .ok (.imul, 1)) (hz : a * b = z) (kk : W p l e ⟨F, mc, ms, Lw⟩ s m args below meth c H locs k n Q (F0 m (pc + 1) ls (.int (iI z) :: rest))) :
    W p l e ⟨F, mc, ms, Lw⟩ s m args below meth c H locs k n Q (F0 m pc ls (.int (iI b) :: .int (iI a) :: rest)) := by
  refine lv_imul cx.1 cx.2.1 d ?_
  first | (rw [iI_mul, hz]; exact kk) | (rw [iI_mul, Int.mul_comm, hz]; exact kk)
theorem z_iinc (cx : zC p s m args meth c cc own nL ret G H0) {i j : Nat} {n0 : Int} {x z : Int} {lv lv' : List (Nat × Value)} (d : decode cc pc = .ok (.iinc i n0, 3)) (h : lv_has ls nL lv) (hk : lv[j]? = some (i, .int (iI x))) (hz : x + n0 = z) (hn : i < nL) (hl : (i, Value.int (iI z)) :: lv.filter (fun q => !(q.1 == i) && !(q.1 + 1 == i && q.2.category == 2)) = lv')
    (kk : ∀ ls' : Array Slot, lv_has ls' nL lv' → W p l e ⟨F, mc, ms, Lw⟩ s m args below meth c H locs k n Q (F0 m (pc + 3) ls' rest)) : W p l e ⟨F, mc, ms, Lw⟩ s m args below meth c H locs k n Q (F0 m pc ls rest) :=
  lv_iinc (k := j) (v := iI z) cx.1 cx.2.1 d h hk (by rw [← hz, ← iI_add]; rfl) hn hl kk
/-! branches -/
theorem z_icmp_eq (cx : zC p s m args meth c cc own nL ret G H0) {a b : Int} {off : Int} {tgt : Nat} (d : decode cc pc = .ok (.if_icmp .eq off, 3)) (ht : (pc : Int) + off = (tgt : Int)) (hr : rg a ∧ rg b)
    (kt : a = b → W p l e ⟨F, mc, ms, Lw⟩ s m args below meth c H locs k n Q (F0 m tgt ls rest)) (kf : ¬ a = b → W p l e ⟨F, mc, ms, Lw⟩ s m args below meth c H locs k n Q (F0 m (pc + 3) ls rest)) : W p l e ⟨F, mc, ms, Lw⟩ s m args below meth c H locs k n Q (F0 m pc ls (.int (iI b) :: .int (iI a) :: rest)) :=
  lv_icmp_eq cx.1 cx.2.1 d ht (fun h => kt ((iI_eq hr.1 hr.2).mp h)) (fun h => kf (fun z => h ((iI_eq hr.1 hr.2).mpr z)))
theorem z_icmp_ne (cx : zC p s m args meth c cc own nL ret G H0) {a b : Int} {off : Int} {tgt : Nat} (d : decode cc pc = .ok (.if_icmp .ne off, 3)) (ht : (pc : Int) + off = (tgt : Int)) (hr : rg a ∧ rg b)
    (kt : ¬ a = b → W p l e ⟨F, mc, ms, Lw⟩ s m args below meth c H locs k n Q (F0 m tgt ls rest)) (kf : a = b → W p l e ⟨F, mc, ms, Lw⟩ s m args below meth c H locs k n Q (F0 m (pc + 3) ls rest)) : W p l e ⟨F, mc, ms, Lw⟩ s m args below meth c H locs k n Q (F0 m pc ls (.int (iI b) :: .int (iI a) :: rest)) :=
  lv_icmp_ne cx.1 cx.2.1 d ht (fun h => kt (fun z => h ((iI_eq hr.1 hr.2).mpr z))) (fun h => kf ((iI_eq hr.1 hr.2).mp h))
theorem z_icmp_lt (cx : zC p s m args meth c cc own nL ret G H0) {a b : Int} {off : Int} {tgt : Nat} (d : decode cc pc = .ok (.if_icmp .lt off, 3)) (ht : (pc : Int) + off = (tgt : Int)) (hr : rg a ∧ rg b)
    (kt : a < b → W p l e ⟨F, mc, ms, Lw⟩ s m args below meth c H locs k n Q (F0 m tgt ls rest)) (kf : b ≤ a → W p l e ⟨F, mc, ms, Lw⟩ s m args below meth c H locs k n Q (F0 m (pc + 3) ls rest)) : W p l e ⟨F, mc, ms, Lw⟩ s m args below meth c H locs k n Q (F0 m pc ls (.int (iI b) :: .int (iI a) :: rest)) :=
  lv_icmp_lt cx.1 cx.2.1 d ht (fun h => kt ((iI_lt hr.1 hr.2).mp h)) (fun h => kf (Int.not_lt.mp (fun z => h ((iI_lt hr.1 hr.2).mpr z))))
theorem z_icmp_ge (cx : zC p s m args meth c cc own nL ret G H0) {a b : Int} {off : Int} {tgt : Nat} (d : decode cc pc = .ok (.if_icmp .ge off, 3)) (ht : (pc : Int) + off = (tgt : Int)) (hr : rg a ∧ rg b)
    (kt : b ≤ a → W p l e ⟨F, mc, ms, Lw⟩ s m args below meth c H locs k n Q (F0 m tgt ls rest)) (kf : a < b → W p l e ⟨F, mc, ms, Lw⟩ s m args below meth c H locs k n Q (F0 m (pc + 3) ls rest)) : W p l e ⟨F, mc, ms, Lw⟩ s m args below meth c H locs k n Q (F0 m pc ls (.int (iI b) :: .int (iI a) :: rest)) :=
  lv_icmp_ge cx.1 cx.2.1 d ht (fun h => kt ((iI_le hr.2 hr.1).mp h)) (fun h => kf (Int.not_le.mp (fun z => h ((iI_le hr.2 hr.1).mpr z))))
theorem z_icmp_gt (cx : zC p s m args meth c cc own nL ret G H0) {a b : Int} {off : Int} {tgt : Nat} (d : decode cc pc = .ok (.if_icmp .gt off, 3)) (ht : (pc : Int) + off = (tgt : Int)) (hr : rg a ∧ rg b)
    (kt : b < a → W p l e ⟨F, mc, ms, Lw⟩ s m args below meth c H locs k n Q (F0 m tgt ls rest)) (kf : a ≤ b → W p l e ⟨F, mc, ms, Lw⟩ s m args below meth c H locs k n Q (F0 m (pc + 3) ls rest)) : W p l e ⟨F, mc, ms, Lw⟩ s m args below meth c H locs k n Q (F0 m pc ls (.int (iI b) :: .int (iI a) :: rest)) :=
  lv_icmp_gt cx.1 cx.2.1 d ht (fun h => kt ((iI_lt hr.2 hr.1).mp h)) (fun h => kf (Int.not_lt.mp (fun z => h ((iI_lt hr.2 hr.1).mpr z))))
theorem z_icmp_le (cx : zC p s m args meth c cc own nL ret G H0) {a b : Int} {off : Int} {tgt : Nat} (d : decode cc pc = .ok (.if_icmp .le off, 3)) (ht : (pc : Int) + off = (tgt : Int)) (hr : rg a ∧ rg b)
    (kt : a ≤ b → W p l e ⟨F, mc, ms, Lw⟩ s m args below meth c H locs k n Q (F0 m tgt ls rest)) (kf : b < a → W p l e ⟨F, mc, ms, Lw⟩ s m args below meth c H locs k n Q (F0 m (pc + 3) ls rest)) : W p l e ⟨F, mc, ms, Lw⟩ s m args below meth c H locs k n Q (F0 m pc ls (.int (iI b) :: .int (iI a) :: rest)) :=
  lv_icmp_le cx.1 cx.2.1 d ht (fun h => kt ((iI_le hr.1 hr.2).mp h)) (fun h => kf (Int.not_le.mp (fun z => h ((iI_le hr.1 hr.2).mpr z))))
theorem z_if_eq (cx : zC p s m args meth c cc own nL ret G H0) {a : Int} {off : Int} {tgt : Nat} (d : decode cc pc = .ok (.ifCond .eq off, 3)) (ht : (pc : Int) + off = (tgt : Int)) (hr : rg a)
    (kt : a = 0 → W p l e ⟨F, mc, ms, Lw⟩ s m args below meth c H locs k n Q (F0 m tgt ls rest)) (kf : ¬ a = 0 → W p l e ⟨F, mc, ms, Lw⟩ s m args below meth c H locs k n Q (F0 m (pc + 3) ls rest)) : W p l e ⟨F, mc, ms, Lw⟩ s m args below meth c H locs k n Q (F0 m pc ls (.int (iI a) :: rest)) :=
  lv_if_eq cx.1 cx.2.1 d ht (fun h => kt ((iI_eq hr (b := 0) (by decide)).mp h)) (fun h => kf (fun z => h ((iI_eq hr (b := 0) (by decide)).mpr z)))
theorem z_if_ne (cx : zC p s m args meth c cc own nL ret G H0) {a : Int} {off : Int} {tgt : Nat} (d : decode cc pc = .ok (.ifCond .ne off, 3)) (ht : (pc : Int) + off = (tgt : Int)) (hr : rg a)
    (kt : ¬ a = 0 → W p l e ⟨F, mc, ms, Lw⟩ s m args below meth c H locs k n Q (F0 m tgt ls rest)) (kf : a = 0 → W p l e ⟨F, mc, ms, Lw⟩ s m args below meth c H locs k n Q (F0 m (pc + 3) ls rest)) : W p l e ⟨F, mc, ms, Lw⟩ s m args below meth c H locs k n Q (F0 m pc ls (.int (iI a) :: rest)) :=
  lv_if_ne cx.1 cx.2.1 d ht (fun h => kt (fun z => h ((iI_eq hr (b := 0) (by decide)).mpr z))) (fun h => kf ((iI_eq hr (b := 0) (by decide)).mp h))
theorem z_if_lt (cx : zC p s m args meth c cc own nL ret G H0) {a : Int} {off : Int} {tgt : Nat} (d : decode cc pc = .ok (.ifCond .lt off, 3)) (ht : (pc : Int) + off = (tgt : Int)) (hr : rg a)
    (kt : a < 0 → W p l e ⟨F, mc, ms, Lw⟩ s m args below meth c H locs k n Q (F0 m tgt ls rest)) (kf : 0 ≤ a → W p l e ⟨F, mc, ms, Lw⟩ s m args below meth c H locs k n Q (F0 m (pc + 3) ls rest)) : W p l e ⟨F, mc, ms, Lw⟩ s m args below meth c H locs k n Q (F0 m pc ls (.int (iI a) :: rest)) :=
  lv_if_lt cx.1 cx.2.1 d ht (fun h => kt ((iI_lt hr (b := 0) (by decide)).mp h)) (fun h => kf (Int.not_lt.mp (fun z => h ((iI_lt hr (b := 0) (by decide)).mpr z))))
theorem z_if_ge (cx : zC p s m args meth c cc own nL ret G H0) {a : Int} {off : Int} {tgt : Nat} (d : decode cc pc = .ok (.ifCond .ge off, 3)) (ht : (pc : Int) + off = (tgt : Int)) (hr : rg a)
    (kt : 0 ≤ a → W p l e ⟨F, mc, ms, Lw⟩ s m args below meth c H locs k n Q (F0 m tgt ls rest)) (kf : a < 0 → W p l e ⟨F, mc, ms, Lw⟩ s m args below meth c H locs k n Q (F0 m (pc + 3) ls rest)) : W p l e ⟨F, mc, ms, Lw⟩ s m args below meth c H locs k n Q (F0 m pc ls (.int (iI a) :: rest)) :=
  lv_if_ge cx.1 cx.2.1 d ht (fun h => kt ((iI_le (a := 0) (by decide) hr).mp h)) (fun h => kf (Int.not_le.mp (fun z => h ((iI_le (a := 0) (by decide) hr).mpr z))))
theorem z_if_gt (cx : zC p s m args meth c cc own nL ret G H0) {a : Int} {off : Int} {tgt : Nat} (d : decode cc pc = .ok (.ifCond .gt off, 3)) (ht : (pc : Int) + off = (tgt : Int)) (hr : rg a)
    (kt : 0 < a → W p l e ⟨F, mc, ms, Lw⟩ s m args below meth c H locs k n Q (F0 m tgt ls rest)) (kf : a ≤ 0 → W p l e ⟨F, mc, ms, Lw⟩ s m args below meth c H locs k n Q (F0 m (pc + 3) ls rest)) : W p l e ⟨F, mc, ms, Lw⟩ s m args below meth c H locs k n Q (F0 m pc ls (.int (iI a) :: rest)) :=
  lv_if_gt cx.1 cx.2.1 d ht (fun h => kt ((iI_lt (a := 0) (by decide) hr).mp h)) (fun h => kf (Int.not_lt.mp (fun z => h ((iI_lt (a := 0) (by decide) hr).mpr z))))
theorem z_if_le (cx : zC p s m args meth c cc own nL ret G H0) {a : Int} {off : Int} {tgt : Nat} (d : decode cc pc = .ok (.ifCond .le off, 3)) (ht : (pc : Int) + off = (tgt : Int)) (hr : rg a)
    (kt : a ≤ 0 → W p l e ⟨F, mc, ms, Lw⟩ s m args below meth c H locs k n Q (F0 m tgt ls rest)) (kf : 0 < a → W p l e ⟨F, mc, ms, Lw⟩ s m args below meth c H locs k n Q (F0 m (pc + 3) ls rest)) : W p l e ⟨F, mc, ms, Lw⟩ s m args below meth c H locs k n Q (F0 m pc ls (.int (iI a) :: rest)) :=
  lv_if_le cx.1 cx.2.1 d ht (fun h => kt ((iI_le hr (b := 0) (by decide)).mp h)) (fun h => kf (Int.not_le.mp (fun z => h ((iI_le hr (b := 0) (by decide)).mpr z))))
end ZR
