/-! ===== rows on cells ===== -/
theorem getD_lt {xs : List Int} {i : Nat} (h : i < xs.length) : xs[i]? = some (xs.getD i 0) := by
  rw [List.getD_eq_getElem?_getD, List.getElem?_eq_getElem h]; rfl
theorem getD_ltq {xs : List (Option Nat)} {i : Nat} (h : i < xs.length) : xs[i]? = some (xs.getD i none) := by
  rw [List.getD_eq_getElem?_getD, List.getElem?_eq_getElem h]; rfl
theorem zarr_congr {c : ClassId} {N : Nat} {f g : Nat → Value} (h : ∀ j, j < N → f j = g j) : arrV c N f = arrV c N g := by
  unfold arrV
  have : (fun j : Fin N => f j.val) = (fun j : Fin N => g j.val) := funext fun j => h j.val j.isLt
  rw [this]
theorem Ai.congr {G : zE} {H : Heap} {a k N : Nat} {f : Nat → Int32} {xs : List Int} (h : va_at G.1 zcl (a, .inl (G.1.1 k, N, .inl f)) H) (hN : N = xs.length) (hf : ∀ j, j < xs.length → f j = iI (xs.getD j 0)) : Ai G H a k xs := by
  subst hN
  have h1 : H[a]? = some (vp_cell (G.1.1 k) (xs.length, .inl f)) := h
  show H[a]? = some (vp_cell (G.1.1 k) (xs.length, .inl (fun j => iI (xs.getD j 0))))
  rw [h1, vp_cell_i, vp_cell_i]
  exact congrArg some (zarr_congr (fun j hj => congrArg Value.int (hf j hj)))
theorem Aq.congr {G : zE} {H : Heap} {a k N : Nat} {f : Nat → Option Nat} {rs : List (Option Nat)} (h : va_at G.1 zcl (a, .inl (G.1.1 k, N, .inr (.inr (.inr (.inr f))))) H) (hN : N = rs.length) (hf : ∀ j, j < rs.length → f j = rs.getD j none) : Aq G H a k rs := by
  subst hN
  have h1 : H[a]? = some (vp_cell (G.1.1 k) (rs.length, .inr (.inr (.inr (.inr f))))) := h
  show H[a]? = some (vp_cell (G.1.1 k) (rs.length, .inr (.inr (.inr (.inr (fun j => rs.getD j none))))))
  rw [h1, vp_cell_q, vp_cell_q]
  exact congrArg some (zarr_congr (fun j hj => congrArg va_rf (hf j hj)))
theorem Ai.setOf {G : zE} {H : Heap} {a k i : Nat} {xs : List Int} {x : Int} (h : va_at G.1 zcl (a, .inl (G.1.1 k, xs.length, .inl (upd (fun j => iI (xs.getD j 0)) i (iI x)))) H) : Ai G H a k (xs.set i x) := by
  refine Ai.congr h (by simp) (fun j hj => ?_)
  rw [List.length_set] at hj
  unfold upd
  by_cases e : j = i
  · subst e
    rw [if_pos rfl, List.getD_eq_getElem?_getD, List.getElem?_set_self hj]
    rfl
  · rw [if_neg e]
    simp only [List.getD_eq_getElem?_getD, List.getElem?_set_ne (Ne.symm e)]
theorem Aq.setOf {G : zE} {H : Heap} {a k i : Nat} {rs : List (Option Nat)} {x : Option Nat} (h : va_at G.1 zcl (a, .inl (G.1.1 k, rs.length, .inr (.inr (.inr (.inr (va_up (fun j => rs.getD j none) i x)))))) H) : Aq G H a k (rs.set i x) := by
  refine Aq.congr h (by simp) (fun j hj => ?_)
  rw [List.length_set] at hj
  unfold va_up
  by_cases e : j = i
  · subst e
    rw [if_pos rfl, List.getD_eq_getElem?_getD, List.getElem?_set_self hj]
    rfl
  · rw [if_neg e]
    simp only [List.getD_eq_getElem?_getD, List.getElem?_set_ne (Ne.symm e)]
theorem zcls_ne {G : zE} {U : State} {A B : String} {a b : ClassId} (ha : U.vm.findClass A = some a) (hb : U.vm.findClass B = some b) (h : A ≠ B) : a ≠ b := by
  intro e
  subst e
  obtain ⟨k1, h1, e1⟩ := Vm.findClass_spec ha
  obtain ⟨k2, h2, e2⟩ := Vm.findClass_spec hb
  rw [h1] at h2
  cases h2
  exact h (e1.symm.trans e2)
theorem zObF {G : zE} {s : State} {H : Heap} {a ci k0 N : Nat} {C : String} {T : u_T} {vs : List Value} (hK : va_K G.1 zcl (zty G.1) s) (h : Ob G H a ci vs) (hc : zcl[ci]? = some (C, T, N)) (hk0 : k0 < N) :
    ∃ (cell : Cell) (kC : Class) (cf fi : Nat) (kf : Class) (f : Field), H[a]? = some cell ∧ cell.cls = G.1.1 ci ∧ cell.vm = .none ∧ (∀ j, j < N → cell.slots[G.1.2 ci j]? = some (vp_V vs j)) ∧ s.vm.findClass C = some (G.1.1 ci) ∧ s.vm.classes[G.1.1 ci]? = some kC ∧ kC.kind = .ordinary ∧ s.fieldFound? (T k0).1 (T k0).2.1 (T k0).2.2.1 = some (cf, kf, fi, f) ∧ f.slot = G.1.2 ci k0 := by
  obtain ⟨r, h1, cell, q1, q2, q3, q4⟩ := h
  have hr : r = (C, T, N) := Option.some.inj (h1.symm.trans hc)
  subst hr
  obtain ⟨hS1, hfc, kC, hkC, hkind⟩ := hK.1 ci _ hc
  obtain ⟨cf, kf, fi, f, hi, hsl⟩ := hS1 k0 hk0
  exact ⟨cell, kC, cf, fi, kf, f, q1, q2, q3, q4, hfc, hkC, hkind, hi, hsl⟩
section ZH
variable {p : Program} {l : Launch} {e : Env} {F Lw mc ms : Nat} {s : State} {m : MethodId} {args : Array Value} {below : List Frame} {meth : Method} {c : Code} {H : Heap} {locs : List Loc} {k n : Nat} {Q : State → Prop}
variable {cc : ByteArray} {pc : Nat} {ls : Array Slot} {rest : List Value} {own : String} {nL : Nat} {ret : Option FieldType} {G : zE} {H0 : Heap} {A : Nat → Prop}
theorem zC.K (cx : zC p s m args meth c cc own nL ret G H0) : va_K G.1 zcl (zty G.1) s := cx.2.2.2.2.2.2.2.1.K
theorem zC.wn (cx : zC p s m args meth c cc own nL ret G H0) : s.vm.findClass own = some m.cls := cx.2.2.2.1
theorem zC.ts (cx : zC p s m args meth c cc own nL ret G H0) : ∀ w ∈ lw_all, w.before args s = true := cx.2.2.2.2.1
theorem zC.kk (cx : zC p s m args meth c cc own nL ret G H0) : KK G s := cx.2.2.2.2.2.2.2.1
theorem zC.nest (cx : zC p s m args meth c cc own nL ret G H0) {a b n0 d h : String} {i : Nat} (hq : Cond.fieldLinkNest a i b n0 d h ∈ lw_tbl) : (Cond.fieldLinkNest a i b n0 d h).before args s = true := by
  obtain ⟨⟨⟨a9, h9, -⟩, -⟩, hW⟩ := cx.kk
  exact va_Nw.use rfl (va_Nw.warmF (U := s) hW (va_Nw.of rfl (h9 _ hq)))
theorem zC.nestM (cx : zC p s m args meth c cc own nL ret G H0) {a h : String} {x : MethodName} {i : Nat} (hq : Cond.methodLinkNest a i x h ∈ lw_tbl) : (Cond.methodLinkNest a i x h).before args s = true := by
  obtain ⟨⟨⟨a9, h9, -⟩, -⟩, hW⟩ := cx.kk
  exact va_Nw.use rfl (va_Nw.warmM (U := s) hW (va_Nw.of rfl (h9 _ hq)))
theorem zC.cast (cx : zC p s m args meth c cc own nL ret G H0) {C T : String} (hq : Cond.castable C T ∈ lw_tbl) : va_Nw (.castable C T) s := by
  obtain ⟨⟨⟨a9, h9, -⟩, -⟩, hW⟩ := cx.kk
  exact va_Nw.warmC (U := s) hW (va_Nw.of rfl (h9 _ hq))
theorem zC.arr (cx : zC p s m args meth c cc own nL ret G H0) {t0 : Nat} {q : ClassId × FieldType} (h : (zty G.1)[t0]? = some q) : ArrOfT s q.1 q.2 ∧ va_RA s q.1 q.2 := cx.K.2 t0 q h
theorem zrecv (cx : zC p s m args meth c cc own nL ret G H0) {a ci : Nat} {q : vw_C} {vs : List Value} (h : Ob G H a ci vs) (hc : zcl[ci]? = some q) : ∃ cell : Cell, H[a]? = some cell ∧ cell.vm.isStatics = false ∧ s.vm.findClass q.1 = some cell.cls :=
  va_recv (ws := [(a, .inr (ci, vs))]) cx.K (va1 h) hc (q0 := 0) rfl
/-! fields -/
theorem z_get (cx : zC p s m args meth c cc own nL ret G H0) {ci k0 index N a : Nat} {C ref : String} {T : u_T} {vs : List Value} {v : Value} (h : Ob G H a ci vs) (hc : zcl[ci]? = some (C, T, N)) (hin : ∀ w ∈ u_ws C T N, w ∈ lw_all) (hk0 : k0 < N) (hlink : Cond.fieldLink own index ref (T k0).2.1 (T k0).2.2.1 ∈ lw_all) (hd : (T k0).1 = ref) (hv : vs[k0]? = some v) (d : decode cc pc = .ok (.getfield index, 3))
    (kk : W p l e ⟨F, mc, ms, Lw⟩ s m args below meth c H locs k n Q (F0 m (pc + 3) ls (v :: rest))) : W p l e ⟨F, mc, ms, Lw⟩ s m args below meth c H locs k n Q (F0 m pc ls (.ref a :: rest)) := by
  obtain ⟨cell, kC, cf, fi, kf, f, q1, q2, q3, q4, hfc, hkC, hkind, hi, hsl⟩ := zObF cx.K h hc hk0
  refine W.getf cx.1 cx.2.1 cx.wn (cx.ts _ hlink) (hi := by rw [← hd]; exact hi) (u_facts hfc hkC (u_lays cx.ts hin hk0) hi).1 q1 (by rw [q3]; exact fun h => by cases h) (v := v) ?_ rfl rfl d kk
  rw [hsl, q4 k0 hk0]
  simp [vp_V, hv]
/-- a field that a superclass declares, by the word sameField -/
theorem z_getU (cx : zC p s m args meth c cc own nL ret G H0) {ci k0 index N a : Nat} {C ref : String} {T : u_T} {vs : List Value} {v : Value} (h : Ob G H a ci vs) (hc : zcl[ci]? = some (C, T, N)) (hin : ∀ w ∈ u_ws C T N, w ∈ lw_all) (hk0 : k0 < N) (hlink : Cond.fieldLink own index ref (T k0).2.1 (T k0).2.2.1 ∈ lw_all) (hd : Cond.sameField ref (T k0).1 (T k0).2.1 (T k0).2.2.1 ∈ lw_all) (hv : vs[k0]? = some v) (d : decode cc pc = .ok (.getfield index, 3))
    (kk : W p l e ⟨F, mc, ms, Lw⟩ s m args below meth c H locs k n Q (F0 m (pc + 3) ls (v :: rest))) : W p l e ⟨F, mc, ms, Lw⟩ s m args below meth c H locs k n Q (F0 m pc ls (.ref a :: rest)) := by
  obtain ⟨cell, kC, cf, fi, kf, f, q1, q2, q3, q4, hfc, hkC, hkind, hi, hsl⟩ := zObF cx.K h hc hk0
  refine W.getf cx.1 cx.2.1 cx.wn (cx.ts _ hlink) (hi := u_same (cx.ts _ hd) _ hi) (u_facts hfc hkC (u_lays cx.ts hin hk0) hi).1 q1 (by rw [q3]; exact fun h => by cases h) (v := v) ?_ rfl rfl d kk
  rw [hsl, q4 k0 hk0]
  simp [vp_V, hv]
theorem z_getN (cx : zC p s m args meth c cc own nL ret G H0) {ci k0 index N a : Nat} {C ref host : String} {T : u_T} {vs : List Value} {v : Value} (h : Ob G H a ci vs) (hc : zcl[ci]? = some (C, T, N)) (hin : ∀ w ∈ u_ws C T N, w ∈ lw_all) (hk0 : k0 < N) (hlink : Cond.fieldLinkNest own index ref (T k0).2.1 (T k0).2.2.1 host ∈ lw_tbl) (hd : (T k0).1 = ref) (hv : vs[k0]? = some v) (d : decode cc pc = .ok (.getfield index, 3))
    (kk : W p l e ⟨F, mc, ms, Lw⟩ s m args below meth c H locs k n Q (F0 m (pc + 3) ls (v :: rest))) : W p l e ⟨F, mc, ms, Lw⟩ s m args below meth c H locs k n Q (F0 m pc ls (.ref a :: rest)) := by
  obtain ⟨cell, kC, cf, fi, kf, f, q1, q2, q3, q4, hfc, hkC, hkind, hi, hsl⟩ := zObF cx.K h hc hk0
  refine va_Wgetf cx.1 cx.2.1 cx.wn (cx.nest hlink) (hi := by rw [← hd]; exact hi) (u_facts hfc hkC (u_lays cx.ts hin hk0) hi).1 q1 (by rw [q3]; exact fun h => by cases h) (v := v) ?_ rfl rfl d kk
  rw [hsl, q4 k0 hk0]
  simp [vp_V, hv]
theorem zlay {T : u_T} {C : String} {k0 : Nat} {args : Array Value} {s : State} (hfin : (T k0).2.2.2 = false) (h : (u_lay C T k0).before args s = true) : (Cond.lays C (T k0).1 (T k0).2.1 (T k0).2.2.1).before args s = true := by
  unfold u_lay at h
  rwa [if_neg (by rw [hfin]; decide)] at h
theorem z_put (cx : zC p s m args meth c cc own nL ret G H0) {ci k0 index N a : Nat} {C ref : String} {T : u_T} {vs : List Value} {v : Value} (h : Ob G H a ci vs) (hA : A a) (hS : va_S A H0 H locs) (hc : zcl[ci]? = some (C, T, N)) (hin : ∀ w ∈ u_ws C T N, w ∈ lw_all) {ty0 : Nat → FieldType} (hty : ∀ k, k < N → parseFieldDescriptor (T k).2.2.1 = some (ty0 k)) (hnm : ∀ a, a < N → ∀ b, b < N → a ≠ b → (T a).2.1 ≠ (T b).2.1) (hk0 : k0 < N) (hlink : Cond.fieldLink own index ref (T k0).2.1 (T k0).2.2.1 ∈ lw_all) (hd : (T k0).1 = ref) (hfin : (T k0).2.2.2 = false) {vs' : List Value} (hv : vs.set k0 v = vs') (hlen : k0 < vs.length) (hn : narrow (ty0 k0) v = v ∧ fits (ty0 k0) v = true) (d : decode cc pc = .ok (.putfield index, 3))
    (kk : ∀ (H1 : Heap) (locs1 : List Loc), Ob G H1 a ci vs' → H1.size = H.size → (∀ q : Nat, q ≠ a → H1[q]? = H[q]?) → va_S A H0 H1 locs1 → W p l e ⟨F, mc, ms, Lw⟩ s m args below meth c H1 locs1 k n Q (F0 m (pc + 3) ls rest)) : W p l e ⟨F, mc, ms, Lw⟩ s m args below meth c H locs k n Q (F0 m pc ls (v :: .ref a :: rest)) := by
  subst hv
  have hap := va_apart (own := own) cx.ts hin ty0 hty hnm cx.K hc
  obtain ⟨cell, kC, cf, fi, kf, f, q1, q2, q3, q4, hfc, hkC, hkind, hi, hsl⟩ := zObF cx.K h hc hk0
  have h6 := u_store hfc hkC hkind (zlay hfin (cx.ts _ (hin _ (u_in_lay hk0)))) hi (hty k0 hk0) hn.1 hn.2
  refine W.putK cx.1 cx.2.1 (f := f) ⟨cx.wn, cx.ts _ hlink, ⟨_, _, _, by rw [← hd]; exact hi⟩, (u_facts hfc hkC (u_lays cx.ts hin hk0) hi).1⟩ (by rw [q2]; exact h6) q1 q3 (by rw [hsl]; exact k2_hasslot (q4 k0 hk0)) rfl rfl d fun H' e1 e2 e3 => ?_
  rw [hsl] at e1 ⊢
  exact kk H' _ ⟨_, hc, t_OB.to (V := updV (vp_V vs) k0 v) ⟨_, e1, q2, q3, t_set q4 hap hk0 v⟩ (fun j _ => vp_updV_set hlen v j)⟩ e2 e3 (hS.put e2 e3 hA)
theorem z_putU (cx : zC p s m args meth c cc own nL ret G H0) {ci k0 index N a : Nat} {C ref : String} {T : u_T} {vs : List Value} {v : Value} (h : Ob G H a ci vs) (hA : A a) (hS : va_S A H0 H locs) (hc : zcl[ci]? = some (C, T, N)) (hin : ∀ w ∈ u_ws C T N, w ∈ lw_all) {ty0 : Nat → FieldType} (hty : ∀ k, k < N → parseFieldDescriptor (T k).2.2.1 = some (ty0 k)) (hnm : ∀ a, a < N → ∀ b, b < N → a ≠ b → (T a).2.1 ≠ (T b).2.1) (hk0 : k0 < N) (hlink : Cond.fieldLink own index ref (T k0).2.1 (T k0).2.2.1 ∈ lw_all) (hd : Cond.sameField ref (T k0).1 (T k0).2.1 (T k0).2.2.1 ∈ lw_all) (hfin : (T k0).2.2.2 = false) {vs' : List Value} (hv : vs.set k0 v = vs') (hlen : k0 < vs.length) (hn : narrow (ty0 k0) v = v ∧ fits (ty0 k0) v = true) (d : decode cc pc = .ok (.putfield index, 3))
    (kk : ∀ (H1 : Heap) (locs1 : List Loc), Ob G H1 a ci vs' → H1.size = H.size → (∀ q : Nat, q ≠ a → H1[q]? = H[q]?) → va_S A H0 H1 locs1 → W p l e ⟨F, mc, ms, Lw⟩ s m args below meth c H1 locs1 k n Q (F0 m (pc + 3) ls rest)) : W p l e ⟨F, mc, ms, Lw⟩ s m args below meth c H locs k n Q (F0 m pc ls (v :: .ref a :: rest)) := by
  subst hv
  have hap := va_apart (own := own) cx.ts hin ty0 hty hnm cx.K hc
  obtain ⟨cell, kC, cf, fi, kf, f, q1, q2, q3, q4, hfc, hkC, hkind, hi, hsl⟩ := zObF cx.K h hc hk0
  have h6 := u_store hfc hkC hkind (zlay hfin (cx.ts _ (hin _ (u_in_lay hk0)))) hi (hty k0 hk0) hn.1 hn.2
  refine W.putK cx.1 cx.2.1 (f := f) ⟨cx.wn, cx.ts _ hlink, ⟨_, _, _, u_same (cx.ts _ hd) _ hi⟩, (u_facts hfc hkC (u_lays cx.ts hin hk0) hi).1⟩ (by rw [q2]; exact h6) q1 q3 (by rw [hsl]; exact k2_hasslot (q4 k0 hk0)) rfl rfl d fun H' e1 e2 e3 => ?_
  rw [hsl] at e1 ⊢
  exact kk H' _ ⟨_, hc, t_OB.to (V := updV (vp_V vs) k0 v) ⟨_, e1, q2, q3, t_set q4 hap hk0 v⟩ (fun j _ => vp_updV_set hlen v j)⟩ e2 e3 (hS.put e2 e3 hA)
theorem z_putN (cx : zC p s m args meth c cc own nL ret G H0) {ci k0 index N a : Nat} {C ref host : String} {T : u_T} {vs : List Value} {v : Value} (h : Ob G H a ci vs) (hA : A a) (hS : va_S A H0 H locs) (hc : zcl[ci]? = some (C, T, N)) (hin : ∀ w ∈ u_ws C T N, w ∈ lw_all) {ty0 : Nat → FieldType} (hty : ∀ k, k < N → parseFieldDescriptor (T k).2.2.1 = some (ty0 k)) (hnm : ∀ a, a < N → ∀ b, b < N → a ≠ b → (T a).2.1 ≠ (T b).2.1) (hk0 : k0 < N) (hlink : Cond.fieldLinkNest own index ref (T k0).2.1 (T k0).2.2.1 host ∈ lw_tbl) (hd : (T k0).1 = ref) (hfin : (T k0).2.2.2 = false) {vs' : List Value} (hv : vs.set k0 v = vs') (hlen : k0 < vs.length) (hn : narrow (ty0 k0) v = v ∧ fits (ty0 k0) v = true) (d : decode cc pc = .ok (.putfield index, 3))
    (kk : ∀ (H1 : Heap) (locs1 : List Loc), Ob G H1 a ci vs' → H1.size = H.size → (∀ q : Nat, q ≠ a → H1[q]? = H[q]?) → va_S A H0 H1 locs1 → W p l e ⟨F, mc, ms, Lw⟩ s m args below meth c H1 locs1 k n Q (F0 m (pc + 3) ls rest)) : W p l e ⟨F, mc, ms, Lw⟩ s m args below meth c H locs k n Q (F0 m pc ls (v :: .ref a :: rest)) := by
  subst hv
  have hap := va_apart (own := own) cx.ts hin ty0 hty hnm cx.K hc
  obtain ⟨cell, kC, cf, fi, kf, f, q1, q2, q3, q4, hfc, hkC, hkind, hi, hsl⟩ := zObF cx.K h hc hk0
  have h6 := u_store hfc hkC hkind (zlay hfin (cx.ts _ (hin _ (u_in_lay hk0)))) hi (hty k0 hk0) hn.1 hn.2
  refine va_WputK cx.1 cx.2.1 (f := f) cx.wn (cx.nest hlink) (hi := by rw [← hd]; exact hi) (u_facts hfc hkC (u_lays cx.ts hin hk0) hi).1 (by rw [q2]; exact h6) q1 q3 (by rw [hsl]; exact k2_hasslot (q4 k0 hk0)) rfl rfl d fun H' e1 e2 e3 => ?_
  rw [hsl] at e1 ⊢
  exact kk H' _ ⟨_, hc, t_OB.to (V := updV (vp_V vs) k0 v) ⟨_, e1, q2, q3, t_set q4 hap hk0 v⟩ (fun j _ => vp_updV_set hlen v j)⟩ e2 e3 (hS.put e2 e3 hA)
/-- a final field of this, in a constructor -/
theorem z_putF (cx : zC p s m args meth c cc own nL ret G H0) (hinit : meth.name = "<init>") {ci k0 index N a : Nat} {C ref : String} {T : u_T} {vs : List Value} {v : Value} (h : Ob G H a ci vs) (hA : A a) (hS : va_S A H0 H locs) (hc : zcl[ci]? = some (C, T, N)) (hin : ∀ w ∈ u_ws C T N, w ∈ lw_all) {ty0 : Nat → FieldType} (hty : ∀ k, k < N → parseFieldDescriptor (T k).2.2.1 = some (ty0 k)) (hnm : ∀ a, a < N → ∀ b, b < N → a ≠ b → (T a).2.1 ≠ (T b).2.1) (hk0 : k0 < N) (hlink : Cond.fieldLink own index ref (T k0).2.1 (T k0).2.2.1 ∈ lw_all) (hd : (T k0).1 = ref) (hfin : (T k0).2.2.2 = true) (hdo : (T k0).1 = own) {vs' : List Value} (hv : vs.set k0 v = vs') (hlen : k0 < vs.length) (hn : narrow (ty0 k0) v = v ∧ fits (ty0 k0) v = true) (d : decode cc pc = .ok (.putfield index, 3))
    (kk : ∀ (H1 : Heap) (locs1 : List Loc), Ob G H1 a ci vs' → H1.size = H.size → (∀ q : Nat, q ≠ a → H1[q]? = H[q]?) → va_S A H0 H1 locs1 → W p l e ⟨F, mc, ms, Lw⟩ s m args below meth c H1 locs1 k n Q (F0 m (pc + 3) ls rest)) : W p l e ⟨F, mc, ms, Lw⟩ s m args below meth c H locs k n Q (F0 m pc ls (v :: .ref a :: rest)) := by
  subst hv
  have hap := va_apart (own := own) cx.ts hin ty0 hty hnm cx.K hc
  obtain ⟨cell, kC, cf, fi, kf, f, q1, q2, q3, q4, hfc, hkC, hkind, hi, hsl⟩ := zObF cx.K h hc hk0
  have hlay := cx.ts _ (hin _ (u_in_lay hk0))
  unfold u_lay at hlay
  rw [if_pos hfin] at hlay
  have hcf : m.cls = cf := by
    obtain ⟨_, _, c', _, _, _, -, -, hf', -, -, -, hown2, -⟩ := Cond.laysFinal_spec hlay
    have e1 : c' = cf := by have := hi.symm.trans hf'; simp at this; exact this.1.symm
    rw [hdo] at hown2
    rw [← e1]; exact Option.some.inj (cx.wn.symm.trans hown2)
  have h6 := u_fits hfc hkC hkind (Or.inr hlay) hi (hty k0 hk0) hn.1 hn.2
  refine W.putFinK cx.1 cx.2.1 cx.wn (cx.ts _ hlink) (hi := by rw [← hd]; exact hi) (u_facts hfc hkC (u_lays cx.ts hin hk0) hi).1 hcf hinit (by rw [q2]; exact h6) q1 q3 (by rw [hsl]; exact k2_hasslot (q4 k0 hk0)) rfl rfl d fun H' e1 e2 e3 => ?_
  rw [hsl] at e1 ⊢
  exact kk H' _ ⟨_, hc, t_OB.to (V := updV (vp_V vs) k0 v) ⟨_, e1, q2, q3, t_set q4 hap hk0 v⟩ (fun j _ => vp_updV_set hlen v j)⟩ e2 e3 (hS.put e2 e3 hA)
/-! new objects, arrays -/
theorem z_new (cx : zC p s m args meth c cc own nL ret G H0) {ci index N N' : Nat} {C : String} {T : u_T} (hS : va_S A H0 H locs) (hc : zcl[ci]? = some (C, T, N)) (hin : ∀ w ∈ u_ws C T N, w ∈ lw_all) {ty0 : Nat → FieldType} (hty : ∀ k, k < N → parseFieldDescriptor (T k).2.2.1 = some (ty0 k)) (hcl : Cond.classLink own index C ∈ lw_all) (hinst : Cond.instantiable C N' ∈ lw_all) (hini : Cond.initialized C ∈ lw_all) {vs : List Value} (hfs : ∀ j, j < N → defaultValue (ty0 j) = vp_V vs j) (hk : k + 1 ≤ mc ∧ n + N' ≤ ms) (d : decode cc pc = .ok (.new index, 3))
    (kk : ∀ (q : Nat) (H1 : Heap), q = H.size → H0.size ≤ q → Ob G H1 q ci vs → H1.size = H.size + 1 → Ext H H1 → va_S A H0 H1 locs → W p l e ⟨F, mc, ms, Lw⟩ s m args below meth c H1 locs (k + 1) (n + N') Q (F0 m (pc + 3) ls (.ref q :: rest))) : W p l e ⟨F, mc, ms, Lw⟩ s m args below meth c H locs k n Q (F0 m pc ls rest) := by
  have hKn := cx.K.1 ci _ hc
  refine W.newcK cx.1 cx.2.1 cx.wn (cx.ts _ hcl) (cx.ts _ hinst) (cx.ts _ hini) rfl d hk.1 hk.2 hKn.2.1 rfl fun H1 kC hkC e1 z1 o1 => ?_
  exact kk H.size H1 rfl hS.1 ⟨_, hc, (u_born ty0 cx.ts hin hKn hkC e1 hty).to hfs⟩ z1 ⟨by omega, o1⟩ ⟨Nat.le_trans hS.1 (by omega), fun x h1 h2 => (o1 x (Nat.lt_of_lt_of_le h1 hS.1)).trans (hS.2.1 x h1 h2), hS.2.2⟩
theorem z_newI (cx : zC p s m args meth c cc own nL ret G H0) (hS : va_S A H0 H locs) (harr : Cond.arrayClass .int ∈ lw_all) {z : Int} (N : Nat) (hz : z = (N : Int) ∧ N ≤ 100000) (hk : k + 1 ≤ mc ∧ n + N ≤ ms) (d : decode cc pc = .ok (.newarray .int, 2))
    (kk : ∀ (q : Nat) (H1 : Heap), q = H.size → H0.size ≤ q → Ai G H1 q 101 (List.replicate N 0) → H1.size = H.size + 1 → Ext H H1 → va_S A H0 H1 locs → W p l e ⟨F, mc, ms, Lw⟩ s m args below meth c H1 locs (k + 1) (n + N) Q (F0 m (pc + 2) ls (.ref q :: rest))) : W p l e ⟨F, mc, ms, Lw⟩ s m args below meth c H locs k n Q (F0 m pc ls (.int (iI z) :: rest)) := by
  obtain ⟨rfl, hN⟩ := hz
  refine va_newaK (atype := .int) cx.1 cx.2.1 (cx.ts _ harr) rfl d rfl (n := iI (N : Int)) (N := N) (by rw [← iI_nI]; exact nI_pos (by omega)) (iI_clamp (by omega)) (by show N * 4 ≤ _; omega) hk.1 hk.2 rfl fun H1 cA e1 z1 o1 hAr hNm => ?_
  have hc : cA = G.1.1 101 := Option.some.inj (hNm.symm.trans (cx.arr (t0 := 1) rfl).2)
  subst hc
  refine kk H.size H1 rfl hS.1 (Ai.congr (N := N) (f := fun _ => iI 0) e1 (by rw [List.length_replicate]) (fun j hj => by rw [List.length_replicate] at hj; rw [List.getD_eq_getElem?_getD, List.getElem?_replicate, if_pos hj]; rfl)) z1 ⟨by omega, o1⟩ ⟨Nat.le_trans hS.1 (by omega), fun x h1 h2 => (o1 x (Nat.lt_of_lt_of_le h1 hS.1)).trans (hS.2.1 x h1 h2), hS.2.2⟩
theorem z_newB (cx : zC p s m args meth c cc own nL ret G H0) (hS : va_S A H0 H locs) (harr : Cond.arrayClass .byte ∈ lw_all) {z : Int} (N : Nat) (hz : z = (N : Int) ∧ N ≤ 100000) (hk : k + 1 ≤ mc ∧ n + N ≤ ms) (d : decode cc pc = .ok (.newarray .byte, 2))
    (kk : ∀ (q : Nat) (H1 : Heap), q = H.size → H0.size ≤ q → Ai G H1 q 100 (List.replicate N 0) → H1.size = H.size + 1 → Ext H H1 → va_S A H0 H1 locs → W p l e ⟨F, mc, ms, Lw⟩ s m args below meth c H1 locs (k + 1) (n + N) Q (F0 m (pc + 2) ls (.ref q :: rest))) : W p l e ⟨F, mc, ms, Lw⟩ s m args below meth c H locs k n Q (F0 m pc ls (.int (iI z) :: rest)) := by
  obtain ⟨rfl, hN⟩ := hz
  refine va_newaK (atype := .byte) cx.1 cx.2.1 (cx.ts _ harr) rfl d rfl (n := iI (N : Int)) (N := N) (by rw [← iI_nI]; exact nI_pos (by omega)) (iI_clamp (by omega)) (by show N * 1 ≤ _; omega) hk.1 hk.2 rfl fun H1 cA e1 z1 o1 hAr hNm => ?_
  have hc : cA = G.1.1 100 := Option.some.inj (hNm.symm.trans (cx.arr (t0 := 0) rfl).2)
  subst hc
  refine kk H.size H1 rfl hS.1 (Ai.congr (N := N) (f := fun _ => iI 0) e1 (by rw [List.length_replicate]) (fun j hj => by rw [List.length_replicate] at hj; rw [List.getD_eq_getElem?_getD, List.getElem?_replicate, if_pos hj]; rfl)) z1 ⟨by omega, o1⟩ ⟨Nat.le_trans hS.1 (by omega), fun x h1 h2 => (o1 x (Nat.lt_of_lt_of_le h1 hS.1)).trans (hS.2.1 x h1 h2), hS.2.2⟩
theorem z_iald (cx : zC p s m args meth c cc own nL ret G H0) {a : Nat} {xs : List Int} {z : Int} (h : Ai G H a 101 xs) (i : Nat) (hz : z = (i : Int) ∧ i < xs.length ∧ i < 2147483648) (d : decode cc pc = .ok (.iaload, 1))
    (kk : ∀ x : Int, xs[i]? = some x → W p l e ⟨F, mc, ms, Lw⟩ s m args below meth c H locs k n Q (F0 m (pc + 1) ls (.int (iI x) :: rest))) : W p l e ⟨F, mc, ms, Lw⟩ s m args below meth c H locs k n Q (F0 m pc ls (.int (iI z) :: .ref a :: rest)) := by
  refine va_iald (f := fun j => iI (xs.getD j 0)) cx.1 cx.2.1 cx.K (va1 h) 0 1 rfl rfl (iI_in hz) d ?_
  rw [iI_cl hz]
  exact kk _ (getD_lt hz.2.1)
theorem z_bald (cx : zC p s m args meth c cc own nL ret G H0) {a : Nat} {xs : List Int} {z : Int} (h : Ai G H a 100 xs) (i : Nat) (hz : z = (i : Int) ∧ i < xs.length ∧ i < 2147483648) (d : decode cc pc = .ok (.baload, 1))
    (kk : ∀ x : Int, xs[i]? = some x → W p l e ⟨F, mc, ms, Lw⟩ s m args below meth c H locs k n Q (F0 m (pc + 1) ls (.int (iI x) :: rest))) : W p l e ⟨F, mc, ms, Lw⟩ s m args below meth c H locs k n Q (F0 m pc ls (.int (iI z) :: .ref a :: rest)) := by
  refine va_bald (f := fun j => iI (xs.getD j 0)) cx.1 cx.2.1 cx.K (va1 h) 0 0 rfl rfl (iI_in hz) d ?_
  rw [iI_cl hz]
  exact kk _ (getD_lt hz.2.1)
theorem z_alen (cx : zC p s m args meth c cc own nL ret G H0) {a : Nat} {xs : List Int} (h : Ai G H a 101 xs) (d : decode cc pc = .ok (.arraylength, 1))
    (kk : W p l e ⟨F, mc, ms, Lw⟩ s m args below meth c H locs k n Q (F0 m (pc + 1) ls (.int (iI (xs.length : Int)) :: rest))) : W p l e ⟨F, mc, ms, Lw⟩ s m args below meth c H locs k n Q (F0 m pc ls (.ref a :: rest)) :=
  va_alen cx.1 cx.2.1 cx.K (va1 h) 0 1 rfl (ty := .int) rfl (iI_ofNat _) d kk
theorem z_alenB (cx : zC p s m args meth c cc own nL ret G H0) {a : Nat} {xs : List Int} (h : Ai G H a 100 xs) (d : decode cc pc = .ok (.arraylength, 1))
    (kk : W p l e ⟨F, mc, ms, Lw⟩ s m args below meth c H locs k n Q (F0 m (pc + 1) ls (.int (iI (xs.length : Int)) :: rest))) : W p l e ⟨F, mc, ms, Lw⟩ s m args below meth c H locs k n Q (F0 m pc ls (.ref a :: rest)) :=
  va_alen cx.1 cx.2.1 cx.K (va1 h) 0 0 rfl (ty := .byte) rfl (iI_ofNat _) d kk
theorem z_alenQ (cx : zC p s m args meth c cc own nL ret G H0) {a j t0 : Nat} {rs : List (Option Nat)} {ty : FieldType} (h : Aq G H a j rs) (ht : (zty G.1)[t0]? = some (G.1.1 j, ty)) (d : decode cc pc = .ok (.arraylength, 1))
    (kk : W p l e ⟨F, mc, ms, Lw⟩ s m args below meth c H locs k n Q (F0 m (pc + 1) ls (.int (iI (rs.length : Int)) :: rest))) : W p l e ⟨F, mc, ms, Lw⟩ s m args below meth c H locs k n Q (F0 m pc ls (.ref a :: rest)) :=
  va_alen cx.1 cx.2.1 cx.K (va1 h) 0 t0 rfl ht (iI_ofNat _) d kk
theorem z_iast (cx : zC p s m args meth c cc own nL ret G H0) {a : Nat} {xs : List Int} {z x : Int} (h : Ai G H a 101 xs) (hA : A a) (hS : va_S A H0 H locs) (i : Nat) (hz : z = (i : Int) ∧ i < xs.length ∧ i < 2147483648) (d : decode cc pc = .ok (.iastore, 1))
    (kk : ∀ (H1 : Heap) (locs1 : List Loc), Ai G H1 a 101 (xs.set i x) → H1.size = H.size → (∀ q : Nat, q ≠ a → H1[q]? = H[q]?) → va_S A H0 H1 locs1 → W p l e ⟨F, mc, ms, Lw⟩ s m args below meth c H1 locs1 k n Q (F0 m (pc + 1) ls rest)) : W p l e ⟨F, mc, ms, Lw⟩ s m args below meth c H locs k n Q (F0 m pc ls (.int (iI x) :: .int (iI z) :: .ref a :: rest)) := by
  have hin := iI_in hz
  refine W.iast cx.1 cx.2.1 (cell := vp_cell (G.1.1 101) (xs.length, .inl (fun j => iI (xs.getD j 0)))) h ((cx.arr (t0 := 1) rfl).1 xs.length (fun j => .int (iI (xs.getD j 0)))) (fun q => by cases q) (by show ¬ (iI z < 0 ∨ (arrV _ _ _).slots.size ≤ _); rw [arrV_size]; exact hin) rfl rfl d fun H1 e1 z1 oq => ?_
  refine kk H1 _ (Ai.setOf ?_) z1 oq (hS.put z1 oq hA)
  show H1[a]? = some (vp_cell _ _)
  rw [e1, vp_cell_i, vp_cell_i, arrV_store, iI_cl hz]
  congr 2
  funext q
  by_cases hq : q = i
  · subst hq
    simp [updV, upd]
  · simp [updV, upd, hq]
theorem z_bast (cx : zC p s m args meth c cc own nL ret G H0) {a : Nat} {xs : List Int} {z x : Int} (h : Ai G H a 100 xs) (hA : A a) (hS : va_S A H0 H locs) (i : Nat) (hz : z = (i : Int) ∧ i < xs.length ∧ i < 2147483648) (hx : -128 ≤ x ∧ x < 128) (d : decode cc pc = .ok (.bastore, 1))
    (kk : ∀ (H1 : Heap) (locs1 : List Loc), Ai G H1 a 100 (xs.set i x) → H1.size = H.size → (∀ q : Nat, q ≠ a → H1[q]? = H[q]?) → va_S A H0 H1 locs1 → W p l e ⟨F, mc, ms, Lw⟩ s m args below meth c H1 locs1 k n Q (F0 m (pc + 1) ls rest)) : W p l e ⟨F, mc, ms, Lw⟩ s m args below meth c H locs k n Q (F0 m pc ls (.int (iI x) :: .int (iI z) :: .ref a :: rest)) := by
  have hin := iI_in hz
  have hnar : (iI x).toInt8.toInt32 = iI x := by
    apply Int32.toInt_inj.mp
    rw [iI_toInt (by omega), Int8.toInt_toInt32, Int32.toInt_toInt8, iI_toInt (by omega)]
    rw [Int.bmod_eq_of_le (by omega) (by omega)]
  refine W.bast cx.1 cx.2.1 (cell := vp_cell (G.1.1 100) (xs.length, .inl (fun j => iI (xs.getD j 0)))) h ((cx.arr (t0 := 0) rfl).1 xs.length (fun j => .int (iI (xs.getD j 0)))) (fun q => by cases q) (by show ¬ (iI z < 0 ∨ (arrV _ _ _).slots.size ≤ _); rw [arrV_size]; exact hin) rfl rfl d fun H1 e1 z1 oq => ?_
  refine kk H1 _ (Ai.setOf ?_) z1 oq (hS.put z1 oq hA)
  show H1[a]? = some (vp_cell _ _)
  rw [e1, vp_cell_i, vp_cell_i, arrV_store, iI_cl hz, narrow_byte, hnar]
  congr 2
  funext q
  by_cases hq : q = i
  · subst hq
    simp [updV, upd]
  · simp [updV, upd, hq]
theorem z_aald (cx : zC p s m args meth c cc own nL ret G H0) {a j t0 : Nat} {rs : List (Option Nat)} {z : Int} {ty : FieldType} (h : Aq G H a j rs) (ht : (zty G.1)[t0]? = some (G.1.1 j, ty)) (hty : ty.isReference = true) (i : Nat) (hz : z = (i : Int) ∧ i < rs.length ∧ i < 2147483648) (d : decode cc pc = .ok (.aaload, 1))
    (kk : ∀ x : Option Nat, rs[i]? = some x → W p l e ⟨F, mc, ms, Lw⟩ s m args below meth c H locs k n Q (F0 m (pc + 1) ls (va_rf x :: rest))) : W p l e ⟨F, mc, ms, Lw⟩ s m args below meth c H locs k n Q (F0 m pc ls (.int (iI z) :: .ref a :: rest)) := by
  have hin := iI_in hz
  refine W.aald (v := va_rf (rs.getD i none)) (ty := ty) cx.1 cx.2.1 (cell := vp_cell (G.1.1 j) (rs.length, .inr (.inr (.inr (.inr (fun j => rs.getD j none)))))) h ((cx.arr (t0 := t0) ht).1 rs.length (fun j => va_rf (rs.getD j none))) hty (fun q => by cases q) (by show ¬ (iI z < 0 ∨ (arrV _ _ _).slots.size ≤ _); rw [arrV_size]; exact hin) (by show (arrV _ _ _).slots[_]? = _; rw [iI_cl hz, arrV_read _ _ hz.2.1]) rfl rfl d (kk _ (getD_ltq hz.2.1))
/-- a reference into an array of references: its cell's class may be assigned to the array's component -/
theorem z_aast (cx : zC p s m args meth c cc own nL ret G H0) {a j t0 v : Nat} {rs : List (Option Nat)} {z : Int} {ty : FieldType} (h : Aq G H a j rs) (ht : (zty G.1)[t0]? = some (G.1.1 j, ty)) (hty : ty.isReference = true) (hA : A a) (hS : va_S A H0 H locs)
    (hv : ∀ (comp : ClassId) (kA : Class), s.vm.classes[G.1.1 j]? = some kA → kA.kind = .array comp ty → ∃ (cv : Cell) (kv kc : Class), H[v]? = some cv ∧ cv.vm.isStatics = false ∧ s.vm.classes[cv.cls]? = some kv ∧ s.vm.classes[comp]? = some kc ∧ s.vm.assignable cv.cls comp = true)
    (i : Nat) (hz : z = (i : Int) ∧ i < rs.length ∧ i < 2147483648) (d : decode cc pc = .ok (.aastore, 1))
    (kk : ∀ (H1 : Heap) (locs1 : List Loc), Aq G H1 a j (rs.set i (some v)) → H1.size = H.size → (∀ q : Nat, q ≠ a → H1[q]? = H[q]?) → va_S A H0 H1 locs1 → W p l e ⟨F, mc, ms, Lw⟩ s m args below meth c H1 locs1 k n Q (F0 m (pc + 1) ls rest)) : W p l e ⟨F, mc, ms, Lw⟩ s m args below meth c H locs k n Q (F0 m pc ls (.ref v :: .int (iI z) :: .ref a :: rest)) := by
  have hin := iI_in hz
  have h0 : ¬ iI z < 0 := fun q => hin (Or.inl q)
  obtain ⟨-, kA, hkA, comp, hkind⟩ := (cx.arr (t0 := t0) ht).1 rs.length (fun j => va_rf (rs.getD j none))
  obtain ⟨cv, kv, kc, g1, g2, g3, g4, g5⟩ := hv comp kA hkA hkind
  refine W.aast cx.1 cx.2.1 (cell := vp_cell (G.1.1 j) (rs.length, .inr (.inr (.inr (.inr (fun j => rs.getD j none)))))) h (fun q h => by cases h) (fun h => by cases h) hkA hkind hty g4 ⟨h0, by show _ < (arrV _ _ _).slots.size; rw [arrV_size, iI_cl hz]; exact hz.2.1⟩ g1 (fun q h => by rw [h] at g2; cases g2) g3 g5 rfl rfl d fun H1 e1 z1 oq => ?_
  refine kk H1 _ (Aq.setOf ?_) z1 oq (hS.put z1 oq hA)
  show H1[a]? = some (vp_cell _ _)
  rw [e1, vp_cell_q, vp_cell_q, arrV_store, iI_cl hz]
  congr 2
  funext q
  by_cases hq : q = i
  · subst hq
    simp [updV, va_up, va_rf]
  · simp [updV, va_up, hq]
/-! calls -/
theorem zkeepS {A1 : Nat → Prop} {H1 : Heap} {locs L : List Loc} {free : Addr → Prop} (hS : va_S A H0 H locs) (h1 : H.size ≤ H1.size) (h2 : ∀ q : Nat, q < H.size → ¬ A1 q → H1[q]? = H[q]?) (hA : ∀ q : Nat, A1 q → A q) (hL : ∀ q ∈ L, A1 q.base) : va_S A H0 H1 (locs ++ L) :=
  ⟨Nat.le_trans hS.1 h1, fun q g1 g2 => (h2 q (Nat.lt_of_lt_of_le g1 hS.1) (fun z => g2 (hA q z))).trans (hS.2.1 q g1 g2), fun q hq => by
    rcases List.mem_append.mp hq with h | h
    · exact hS.2.2 q h
    · exact hA _ (hL q h)⟩
theorem zpreS (cx : zC p s m args meth c cc own nL ret G H0) {as : List Value} : PreS s H (fun v U => v = as.toArray ∧ U.heap = H ∧ KK G U) as := ⟨zblind, fun U hU hW => ⟨rfl, hU, cx.kk.warm hW⟩⟩
theorem zgoR {post : Value → Heap → Prop} {A1 : Nat → Prop} {as : List Value} {st : List Value} {mc' ms' : Nat} (hS : va_S A H0 H locs) (hA : ∀ q : Nat, A1 q → A q)
    (hr : va_Run p l e ⟨F, mc, ms, Lw⟩ s m args below meth c H locs k n mc' ms' (F0 m pc ls st) rest (zQ (fun o H1 => ∃ r : Value, o = .returned (some r) ∧ post r H1) A1 as.toArray) A1)
    (kk : ∀ (r : Value) (H1 : Heap) (locs1 : List Loc), post r H1 → H.size ≤ H1.size → (∀ q : Nat, q < H.size → ¬ A1 q → H1[q]? = H[q]?) → va_S A H0 H1 locs1 → W p l e ⟨F, mc, ms, Lw⟩ s m args below meth c H1 locs1 (k + mc') (n + ms') Q (F0 m (pc + 3) ls (r :: rest))) : W p l e ⟨F, mc, ms, Lw⟩ s m args below meth c H locs k n Q (F0 m pc ls st) := by
  intro T hT X
  obtain ⟨v, st₀, t, T', L, h0, X', hL, e1, e2, ⟨⟨r, hv, hp⟩, hz, hk⟩, stp⟩ := hr T hT X
  cases hv
  rw [h0] at hz hk
  obtain ⟨t2, a1, b1⟩ := kk r T'.heap (locs ++ L) (by rw [e1]; exact hp) (by rw [e1]; exact hz) (fun q h1 h2 => by rw [e1]; exact hk q h1 h2) (zkeepS (free := A1) hS (by rw [e1]; exact hz) (fun q h1 h2 => by rw [e1]; exact hk q h1 h2) hA hL) T' rfl X'
  exact ⟨t2, stp t2 a1, b1⟩
theorem zgoV {post : Heap → Prop} {A1 : Nat → Prop} {as : List Value} {st : List Value} {mc' ms' : Nat} (hS : va_S A H0 H locs) (hA : ∀ q : Nat, A1 q → A q)
    (hr : va_Run p l e ⟨F, mc, ms, Lw⟩ s m args below meth c H locs k n mc' ms' (F0 m pc ls st) rest (zQ (fun o H1 => o = .returned none ∧ post H1) A1 as.toArray) A1)
    (kk : ∀ (H1 : Heap) (locs1 : List Loc), post H1 → H.size ≤ H1.size → (∀ q : Nat, q < H.size → ¬ A1 q → H1[q]? = H[q]?) → va_S A H0 H1 locs1 → W p l e ⟨F, mc, ms, Lw⟩ s m args below meth c H1 locs1 (k + mc') (n + ms') Q (F0 m (pc + 3) ls rest)) : W p l e ⟨F, mc, ms, Lw⟩ s m args below meth c H locs k n Q (F0 m pc ls st) := by
  intro T hT X
  obtain ⟨v, st₀, t, T', L, h0, X', hL, e1, e2, ⟨⟨hv, hp⟩, hz, hk⟩, stp⟩ := hr T hT X
  cases hv
  rw [h0] at hz hk
  obtain ⟨t2, a1, b1⟩ := kk T'.heap (locs ++ L) (by rw [e1]; exact hp) (by rw [e1]; exact hz) (fun q h1 h2 => by rw [e1]; exact hk q h1 h2) (zkeepS (free := A1) hS (by rw [e1]; exact hz) (fun q h1 h2 => by rw [e1]; exact hk q h1 h2) hA hL) T' rfl X'
  exact ⟨t2, stp t2 a1, b1⟩
abbrev zdesc (y : MethodName) (n : Nat) : Prop := y.cls ≠ "java/lang/invoke/MethodHandle" ∧ y.cls ≠ "java/lang/invoke/VarHandle" ∧ (parseMethodDescriptor y.desc).map (fun d => d.parameters.length) = some n
theorem z_callS (cx : zC p s m args meth c cc own nL ret G H0) {y : MethodName} {cs : ByteArray} {nL' F' L' mc' ms' index j : Nat} {ret' : Option FieldType} {as st : List Value} {post : Value → Heap → Prop} {A1 : Nat → Prop} {lv : List (Nat × Value)} (hM : zR G l y (ws_ y cs nL' ret') F' L' mc' ms' as H post A1) (hG : GoodIn lw_all (va_wsS own index y (ws_ y cs nL' ret'))) (hd : zdesc y j) (hn : as.length = j) (hst : st = as.reverse ++ rest) (hl : lv_has ls nL lv) (hcat : (rest.map fun v => v.category).sum ≤ 8) (hR : F' + 1 ≤ F ∧ 8 + (nL' + 11) + L' ≤ Lw) (hk : k + mc' ≤ mc ∧ n + ms' ≤ ms) (d : decode cc pc = .ok (.invokestatic index, 3)) (hS : va_S A H0 H locs) (hA : ∀ q : Nat, A1 q → A q)
    (kk : ∀ (r : Value) (H1 : Heap) (locs1 : List Loc), post r H1 → H.size ≤ H1.size → (∀ q : Nat, q < H.size → ¬ A1 q → H1[q]? = H[q]?) → va_S A H0 H1 locs1 → W p l e ⟨F, mc, ms, Lw⟩ s m args below meth c H1 locs1 (k + mc') (n + ms') Q (F0 m (pc + 3) ls (r :: rest))) : W p l e ⟨F, mc, ms, Lw⟩ s m args below meth c H locs k n Q (F0 m pc ls st) :=
  zgoR (as := as) hS hA (va_runS ⟨cx.1, cx.2.1, cx.2.2.1, cx.wn, cx.ts⟩ hM (va_cwS j cx.ts hG rfl rfl rfl hd hR) (zpreS cx) rfl hn hl.1 hst (lv_room hcat) d hk) kk
theorem z_callSv (cx : zC p s m args meth c cc own nL ret G H0) {y : MethodName} {cs : ByteArray} {nL' F' L' mc' ms' index j : Nat} {ret' : Option FieldType} {as st : List Value} {post : Heap → Prop} {A1 : Nat → Prop} {lv : List (Nat × Value)} (hM : zV G l y (ws_ y cs nL' ret') F' L' mc' ms' as H post A1) (hG : GoodIn lw_all (va_wsS own index y (ws_ y cs nL' ret'))) (hd : zdesc y j) (hn : as.length = j) (hst : st = as.reverse ++ rest) (hl : lv_has ls nL lv) (hcat : (rest.map fun v => v.category).sum ≤ 8) (hR : F' + 1 ≤ F ∧ 8 + (nL' + 11) + L' ≤ Lw) (hk : k + mc' ≤ mc ∧ n + ms' ≤ ms) (d : decode cc pc = .ok (.invokestatic index, 3)) (hS : va_S A H0 H locs) (hA : ∀ q : Nat, A1 q → A q)
    (kk : ∀ (H1 : Heap) (locs1 : List Loc), post H1 → H.size ≤ H1.size → (∀ q : Nat, q < H.size → ¬ A1 q → H1[q]? = H[q]?) → va_S A H0 H1 locs1 → W p l e ⟨F, mc, ms, Lw⟩ s m args below meth c H1 locs1 (k + mc') (n + ms') Q (F0 m (pc + 3) ls rest)) : W p l e ⟨F, mc, ms, Lw⟩ s m args below meth c H locs k n Q (F0 m pc ls st) :=
  zgoV (as := as) hS hA (va_runS ⟨cx.1, cx.2.1, cx.2.2.1, cx.wn, cx.ts⟩ hM (va_cwS j cx.ts hG rfl rfl rfl hd hR) (zpreS cx) rfl hn hl.1 hst (lv_room hcat) d hk) kk
abbrev zrec (s : State) (H : Heap) (C : String) (b : Nat) : Prop := ∃ cellB : Cell, H[b]? = some cellB ∧ cellB.vm.isStatics = false ∧ s.vm.findClass C = some cellB.cls
theorem z_callV (cx : zC p s m args meth c cc own nL ret G H0) {y : MethodName} {cs : ByteArray} {nL' F' L' mc' ms' index j b : Nat} {ret' : Option FieldType} {as st : List Value} {post : Value → Heap → Prop} {A1 : Nat → Prop} {lv : List (Nat × Value)} (hM : zR G l y (ws_ y cs nL' ret') F' L' mc' ms' (.ref b :: as) H post A1) (hG : GoodIn lw_all (wsV own index y.cls y (ws_ y cs nL' ret'))) (hb : zrec s H y.cls b) (hd : zdesc y j) (hn : as.length = j) (hst : st = as.reverse ++ .ref b :: rest) (hl : lv_has ls nL lv) (hcat : (rest.map fun v => v.category).sum ≤ 8) (hR : F' + 1 ≤ F ∧ 8 + (nL' + 11) + L' ≤ Lw) (hk : k + mc' ≤ mc ∧ n + ms' ≤ ms) (d : decode cc pc = .ok (.invokevirtual index, 3)) (hS : va_S A H0 H locs) (hA : ∀ q : Nat, A1 q → A q)
    (kk : ∀ (r : Value) (H1 : Heap) (locs1 : List Loc), post r H1 → H.size ≤ H1.size → (∀ q : Nat, q < H.size → ¬ A1 q → H1[q]? = H[q]?) → va_S A H0 H1 locs1 → W p l e ⟨F, mc, ms, Lw⟩ s m args below meth c H1 locs1 (k + mc') (n + ms') Q (F0 m (pc + 3) ls (r :: rest))) : W p l e ⟨F, mc, ms, Lw⟩ s m args below meth c H locs k n Q (F0 m pc ls st) :=
  zgoR (as := .ref b :: as) hS hA (va_runV ⟨cx.1, cx.2.1, cx.2.2.1, cx.wn, cx.ts⟩ hM (cwV j cx.ts hG rfl rfl rfl ⟨rfl, hd⟩ hR) ⟨zblind, hb, (zpreS cx (as := .ref b :: as)).2⟩ rfl hn hl.1 hst (lv_room hcat) d hk) kk
theorem z_callVv (cx : zC p s m args meth c cc own nL ret G H0) {y : MethodName} {cs : ByteArray} {nL' F' L' mc' ms' index j b : Nat} {ret' : Option FieldType} {as st : List Value} {post : Heap → Prop} {A1 : Nat → Prop} {lv : List (Nat × Value)} (hM : zV G l y (ws_ y cs nL' ret') F' L' mc' ms' (.ref b :: as) H post A1) (hG : GoodIn lw_all (wsV own index y.cls y (ws_ y cs nL' ret'))) (hb : zrec s H y.cls b) (hd : zdesc y j) (hn : as.length = j) (hst : st = as.reverse ++ .ref b :: rest) (hl : lv_has ls nL lv) (hcat : (rest.map fun v => v.category).sum ≤ 8) (hR : F' + 1 ≤ F ∧ 8 + (nL' + 11) + L' ≤ Lw) (hk : k + mc' ≤ mc ∧ n + ms' ≤ ms) (d : decode cc pc = .ok (.invokevirtual index, 3)) (hS : va_S A H0 H locs) (hA : ∀ q : Nat, A1 q → A q)
    (kk : ∀ (H1 : Heap) (locs1 : List Loc), post H1 → H.size ≤ H1.size → (∀ q : Nat, q < H.size → ¬ A1 q → H1[q]? = H[q]?) → va_S A H0 H1 locs1 → W p l e ⟨F, mc, ms, Lw⟩ s m args below meth c H1 locs1 (k + mc') (n + ms') Q (F0 m (pc + 3) ls rest)) : W p l e ⟨F, mc, ms, Lw⟩ s m args below meth c H locs k n Q (F0 m pc ls st) :=
  zgoV (as := .ref b :: as) hS hA (va_runV ⟨cx.1, cx.2.1, cx.2.2.1, cx.wn, cx.ts⟩ hM (cwV j cx.ts hG rfl rfl rfl ⟨rfl, hd⟩ hR) ⟨zblind, hb, (zpreS cx (as := .ref b :: as)).2⟩ rfl hn hl.1 hst (lv_room hcat) d hk) kk
/-- a constructor -/
theorem z_callI (cx : zC p s m args meth c cc own nL ret G H0) {y : MethodName} {cs : ByteArray} {nL' F' L' mc' ms' index j b : Nat} {as st : List Value} {post : Heap → Prop} {A1 : Nat → Prop} {lv : List (Nat × Value)} (hM : zV G l y (ws_ y cs nL' none) F' L' mc' ms' (.ref b :: as) H post A1) (hG : GoodIn lw_all (ws_ y cs nL' none)) (hini : Cond.initialized y.cls ∈ lw_all) (hlk : Cond.methodLink own index y ∈ lw_all) (him : Cond.instanceMethod y ∈ lw_all) (hy1 : y.name = "<init>") (hd : zdesc y j) (hn : as.length = j) (hst : st = as.reverse ++ .ref b :: rest) (hl : lv_has ls nL lv) (hcat : (rest.map fun v => v.category).sum ≤ 8) (hR : F' + 1 ≤ F ∧ 8 + (nL' + 11) + L' ≤ Lw) (hk : k + mc' ≤ mc ∧ n + ms' ≤ ms) (d : decode cc pc = .ok (.invokespecial index, 3)) (hS : va_S A H0 H locs) (hA : ∀ q : Nat, A1 q → A q)
    (kk : ∀ (H1 : Heap) (locs1 : List Loc), post H1 → H.size ≤ H1.size → (∀ q : Nat, q < H.size → ¬ A1 q → H1[q]? = H[q]?) → va_S A H0 H1 locs1 → W p l e ⟨F, mc, ms, Lw⟩ s m args below meth c H1 locs1 (k + mc') (n + ms') Q (F0 m (pc + 3) ls rest)) : W p l e ⟨F, mc, ms, Lw⟩ s m args below meth c H locs k n Q (F0 m pc ls st) :=
  zgoV (as := .ref b :: as) hS hA (va_runI (As := as) ⟨cx.1, cx.2.1, cx.2.2.1, cx.wn, cx.ts⟩ hM (cwI j cx.ts hG rfl rfl rfl (cx.ts _ hini) (cx.ts _ hlk) (cx.ts _ him) hy1 hd hR) (zpreS cx (as := .ref b :: as)) rfl hn hl.1 hst (lv_room hcat) d hk) kk
/-- Object.<init> -/
theorem z_obj (cx : zC p s m args meth c cc own nL ret G H0) {idx a : Nat} {lv : List (Nat × Value)} (hlink : Cond.methodLink own idx Lib.objectInit ∈ lw_all) (hinst : Cond.instanceMethod Lib.objectInit ∈ lw_all) (hcode : Cond.code Lib.objectInit ⟨#[0xb1]⟩ 1 none ∈ lw_all) (hl : lv_has ls nL lv) (hcat : (rest.map fun v => v.category).sum ≤ 8) (hR : 1 ≤ F ∧ 20 ≤ Lw) (d : decode cc pc = .ok (.invokespecial idx, 3))
    (kk : W p l e ⟨F, mc, ms, Lw⟩ s m args below meth c H locs k n Q (F0 m (pc + 3) ls rest)) : W p l e ⟨F, mc, ms, Lw⟩ s m args below meth c H locs k n Q (F0 m pc ls (.ref a :: rest)) :=
  W.objInit cx.1 cx.2.1 cx.wn (cx.ts _ hlink) (cx.ts _ hinst) (cx.ts _ hcode) rfl (by rw [cx.2.2.1]; exact hl.1) rfl d hR.1 (by have := lv_room (m := m) (pc := pc) (ls := ls) (rest := rest) hcat; show 2 * 0 + _ + 12 ≤ Lw; omega) kk
end ZH
