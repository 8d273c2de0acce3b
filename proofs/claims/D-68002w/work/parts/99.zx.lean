/-! ===== methods that throw ===== -/
def exN : List String := ["java/lang/RuntimeException", "java/lang/Exception"]
abbrev exIA : String := "java/lang/IllegalArgumentException"
abbrev exNE : String := "java/util/NoSuchElementException"
theorem ex_g1 : ∀ w ∈ (vx_atS "VaryStore" 113 exIA exN).filter goodWord, w ∈ lw_all := by decide +kernel
theorem ex_o1 : ∀ w ∈ Cond.classLink "VaryStore" 109 exIA :: Cond.initialized exIA :: vx_atS "VaryStore" 113 exIA exN, vx_ot w = true := by decide +kernel
theorem ex_u : Cond.isRef (.static Bundle.tN "UNASSIGNED_STACK" Bundle.steD) ∈ leafs narrow_1 := by decide +kernel
theorem ex_s : Cond.isRef (.static Bundle.tN "SUPPRESSED_SENTINEL" Bundle.listD) ∈ leafs narrow_1 := by decide +kernel
theorem ex_lu : Cond.laysStatic Bundle.tN "UNASSIGNED_STACK" Bundle.steD ∈ lw_tbl := by decide +kernel
theorem ex_ls : Cond.laysStatic Bundle.tN "SUPPRESSED_SENTINEL" Bundle.listD ∈ lw_tbl := by decide +kernel
theorem ex_it : Cond.initialized Bundle.tN ∈ lw_tbl := by decide +kernel
def exCD (w : Cond) : Bool := match w with
  | .castable _ _ => true
  | .declares _ => true
  | _ => false
theorem ex_n1 : ∀ w ∈ (vx_atS "VaryStore" 113 exIA exN).filter (fun w => !goodWord w), w ∈ lw_tbl ∧ exCD w = true := by decide +kernel
theorem ex_k1 : Cond.classLink "VaryStore" 109 exIA ∈ lw_all := by decide +kernel
theorem ex_i1 : Cond.initialized exIA ∈ lw_all := by decide +kernel
def zXC (A : Nat → Prop) (EX : String) (XP : Heap → Prop) : String → State → State → Prop := fun E st t => E = EX ∧ XP t.heap ∧ va_F A st t
/-- answers a value, or throws an EX -/
def zX (G : zE) (l : Launch) (y : MethodName) (ws : List Cond) (F Lw mc ms : Nat) (as : List Value) (H0 : Heap) (EX : String) (post : Value → Heap → Prop) (XP : Heap → Prop) (A : Nat → Prop) : Prop :=
  vx_Met l y ws ⟨F, mc, ms, Lw⟩ (fun v U => v = as.toArray ∧ U.heap = H0 ∧ KK G U) (zQ (fun o H1 => ∃ r : Value, o = .returned (some r) ∧ post r H1) A) (zXC A EX XP) mc ms A
abbrev zXQ (below : List Frame) (EX : String) (post : Value → Heap → Prop) (XP : Heap → Prop) (A : Nat → Prop) (args : Array Value) (s : State) (mc ms : Nat) : State → Prop := vx_MQ below (zQ (fun o H1 => ∃ r : Value, o = .returned (some r) ∧ post r H1) A) (zXC A EX XP) args s mc ms A
theorem zX.start {l : Launch} {y : MethodName} {cc : ByteArray} {nL : Nat} {ret : Option FieldType} {F Lw mc ms : Nat} {as : List Value} {H0 : Heap} {A : Nat → Prop} {G : zE} {EX : String} {post : Value → Heap → Prop} {XP : Heap → Prop} (hy : plainName y.cls = true) (hn : (lg_sl as).length ≤ nL)
    (body : ∀ (p : Program) (e : Env) (s : State) (m : MethodId) (args : Array Value) (below : List Frame) (meth : Method) (c : Code) (Q : State → Prop), zC p s m args meth c cc y.cls nL ret G H0 → Q = zXQ below EX post XP A args s mc ms → (∀ x ∈ c.exceptionTable.toList, False) → ∀ ls : Array Slot, lv_has ls nL (lv_args 0 as) →
      W p l e ⟨F, mc, ms, Lw⟩ s m args below meth c H0 [] 0 0 Q (F0 m 0 ls [])) : zX G l y (ws_ y cc nL ret) F Lw mc ms as H0 EX post XP A := by
  refine vx_ofW (cc := cc) (maxL := nL) (ret := ret) hy rfl ?_
  intro p e s m args below meth c s₁ B hml htb hv
  obtain ⟨rfl, hH, hK⟩ := hv
  have hts := atoms_spec (ws := ws_ y cc nL ret) B.pre
  have hts : ∀ w ∈ lw_all, w.before _ s = true := fun w h => hts w (List.mem_cons_of_mem _ h)
  have hl := lv_entry as (n := nL) hn
  rw [lg_entry_eq]
  rw [hH]
  exact body p e s m _ below meth c _ ⟨B.exec, B.bytes, hml, findClass_of_methodNamed B.named, hts, B.returns, B.notSynchronized, hK, hH⟩ rfl htb _ hl
section ZX
variable {p : Program} {l : Launch} {e : Env} {F Lw mc ms : Nat} {s : State} {m : MethodId} {args : Array Value} {below : List Frame} {meth : Method} {c : Code} {H : Heap} {locs : List Loc} {k n : Nat} {Q : State → Prop}
variable {cc : ByteArray} {pc : Nat} {ls : Array Slot} {rest : List Value} {own : String} {nL : Nat} {ret : Option FieldType} {G : zE} {H0 : Heap} {A : Nat → Prop}
theorem zC.decl (cx : zC p s m args meth c cc own nL ret G H0) {x : MethodName} (hq : Cond.declares x ∈ lw_tbl) : va_Nw (.declares x) s := by
  obtain ⟨⟨⟨a9, h9, -⟩, -⟩, hW⟩ := cx.kk
  exact va_Nw.warmD (U := s) hW (va_Nw.of rfl (h9 _ hq))
theorem zC.ng (cx : zC p s m args meth c cc own nL ret G H0) {w : Cond} (hw : w ∈ lw_tbl) (hk : exCD w = true) : w.before args s = true := by
  cases w with
  | castable C T => exact va_Nw.use rfl (cx.cast hw)
  | declares x => exact va_Nw.use rfl (cx.decl hw)
  | _ => cases hk
theorem ex_at1 (cx : zC p s m args meth c cc own nL ret G H0) : ∀ w ∈ vx_atS "VaryStore" 113 exIA exN, w.before args s = true := by
  intro w hw
  by_cases g : goodWord w = true
  · exact cx.ts _ (ex_g1 w (List.mem_filter.mpr ⟨hw, g⟩))
  · have h := ex_n1 w (List.mem_filter.mpr ⟨hw, by cases hg : goodWord w with | true => exact absurd hg g | false => rfl⟩)
    exact cx.ng h.1 h.2
theorem ex_Z (cx : zC p s m args meth c cc own nL ret G H0) (hB : Bh G H0) {n d : String} (h1 : Cond.isRef (.static Bundle.tN n d) ∈ leafs narrow_1) (h2 : Cond.laysStatic Bundle.tN n d ∈ lw_tbl) (hA : ∀ q, A q → G.2.heap.size ≤ q) : vx_Zq Bundle.tN n d A s s.heap := by
  obtain ⟨a9, g1, g2⟩ := leaf_nar cx.kk.1
  have z1 : vx_Zq Bundle.tN n d (fun q => G.2.heap.size ≤ q) G.2 G.2.heap := vx_Zqof (args := a9) (g1 _ h2) (g1 _ ex_it) (g2 _ h1) (fun a h => Nat.not_le.mpr h)
  have z2 := (z1.moved (U := s) cx.kk.2.alike).kept (H1 := H0) (fun a h _ => hB.2 a h)
  have hH : s.heap = H0 := cx.2.2.2.2.2.2.2.2
  rw [hH]
  exact z2.narrow hA
/-- throw new IllegalArgumentException("..") in the component -/
theorem z_throwIA (cx : zC p s m args meth c cc "VaryStore" nL ret G H0) (htb : ∀ x ∈ c.exceptionTable.toList, False) (hl0 : l.stackTraces = false) (hB : Bh G H0) (hBA : ∀ q, A q → G.2.heap.size ≤ q) {lv : List (Nat × Value)} (hl : lv_has ls nL lv) {text : String} {is sa : Nat} (hR : vk_R "VaryStore" is text sa G.2) {post : Value → Heap → Prop} {XP : Heap → Prop} (hS : va_S A H0 H locs)
    (d0 : decode cc pc = .ok (.new 109, 3)) (d3 : decode cc (pc + 3) = .ok (.dup, 1)) (d4 : decode cc (pc + 4) = .ok (.ldc is, 2)) (d6 : decode cc (pc + 6) = .ok (.invokespecial 113, 3)) (d9 : decode cc (pc + 9) = .ok (.athrow, 1))
    (hF : 5 < F) (hLw : (rest.map fun v => v.category).sum + 82 ≤ Lw) (hk : k + 1 ≤ mc ∧ n + 6 ≤ ms) (hp : ∀ H1 : Heap, Ext H H1 → XP H1) :
    W p l e ⟨F, mc, ms, Lw⟩ s m args below meth c H locs k n (zXQ below exIA post XP A args s mc ms) (F0 m pc ls rest) := by
  have hH : s.heap = H0 := cx.2.2.2.2.2.2.2.2
  refine vx_throwS (A := A) (names := exN) cx.1 cx.2.1 hl0 cx.wn (by decide +kernel) (by decide +kernel) (cx.ts _ ex_k1) (cx.ts _ ex_i1) (vk_R.warm cx.kk.2 hR) (ex_at1 cx) ex_o1 (ex_Z cx hB ex_u ex_lu hBA) (ex_Z cx hB ex_s ex_ls hBA) (by rw [hH]; exact hS) (by rw [cx.2.2.1]; exact hl.1) d0 d3 d4 d6 d9 (fun x hx => (htb x hx).elim) hF (by show _ + (13 * 3 + 43) ≤ Lw; omega) hk.1 hk.2 cx.2.2.2.2.2.2.1 (fun t _ h1 h2 => ⟨rfl, hp t.heap ⟨h1, h2⟩, ?_⟩) hS.2.2 hk.1 hk.2
  have hS2 : va_S A H0 t.heap [] := ⟨Nat.le_trans hS.1 h1, fun q g1 g2 => (h2 q (Nat.lt_of_lt_of_le g1 hS.1)).trans (hS.2.1 q g1 g2), fun z hz => by cases hz⟩
  exact zF cx hS2 rfl
end ZX
section ZX2
variable {p : Program} {l : Launch} {e : Env} {F Lw mc ms : Nat} {s : State} {m : MethodId} {args : Array Value} {below : List Frame} {meth : Method} {c : Code} {H : Heap} {locs : List Loc} {k n : Nat} {Q : State → Prop}
variable {cc : ByteArray} {pc : Nat} {ls : Array Slot} {rest : List Value} {own : String} {nL : Nat} {ret : Option FieldType} {G : zE} {H0 : Heap} {A : Nat → Prop}
theorem zgoX {post : Value → Heap → Prop} {XP : Heap → Prop} {EX : String} {A1 : Nat → Prop} {as : List Value} {st : List Value} {mc' ms' : Nat} (hS : va_S A H0 H locs) (hA : ∀ q : Nat, A1 q → A q)
    (hr : vx_Run p l e ⟨F, mc, ms, Lw⟩ s m args below meth c H locs k n mc' ms' (F0 m pc ls st) rest (zQ (fun o H1 => ∃ r : Value, o = .returned (some r) ∧ post r H1) A1 as.toArray) (zXC A1 EX XP) A1)
    (kx : ∀ (q9 : Addr) (ce : Cell) (H1 : Heap) (locs1 : List Loc), XP H1 → H.size ≤ H1.size → (∀ q : Nat, q < H.size → ¬ A1 q → H1[q]? = H[q]?) → va_S A H0 H1 locs1 → H1[q9]? = some ce → ce.vm = .none → s.vm.findClass EX = some ce.cls → vx_W p l e ⟨F, mc, ms, Lw⟩ s m args below meth c H1 locs1 (k + mc') (n + ms') Q (F0 m pc ls rest) q9)
    (kk : ∀ (r : Value) (H1 : Heap) (locs1 : List Loc), post r H1 → H.size ≤ H1.size → (∀ q : Nat, q < H.size → ¬ A1 q → H1[q]? = H[q]?) → va_S A H0 H1 locs1 → W p l e ⟨F, mc, ms, Lw⟩ s m args below meth c H1 locs1 (k + mc') (n + ms') Q (F0 m (pc + 3) ls (r :: rest))) : W p l e ⟨F, mc, ms, Lw⟩ s m args below meth c H locs k n Q (F0 m pc ls st) := by
  intro T hT X
  rcases hr T hT X with ⟨v, st₀, t, T', L, h0, X', hL, e1, e2, ⟨⟨r, hv, hp⟩, hz, hk⟩, stp⟩ | ⟨q, st₀, t, T', L, E, ce, h0, X', hL, e1, e2, ⟨rfl, hp, hz, hk⟩, hce, hcv, hcl, stp⟩
  · cases hv
    rw [h0] at hz hk
    obtain ⟨t2, a1, b1⟩ := kk r T'.heap (locs ++ L) (by rw [e1]; exact hp) (by rw [e1]; exact hz) (fun q h1 h2 => by rw [e1]; exact hk q h1 h2) (zkeepS (free := A1) hS (by rw [e1]; exact hz) (fun q h1 h2 => by rw [e1]; exact hk q h1 h2) hA hL) T' rfl X'
    exact ⟨t2, stp t2 a1, b1⟩
  · rw [h0] at hz hk
    obtain ⟨t2, a1, b1⟩ := kx q ce T'.heap (locs ++ L) (by rw [e1]; exact hp) (by rw [e1]; exact hz) (fun q h1 h2 => by rw [e1]; exact hk q h1 h2) (zkeepS (free := A1) hS (by rw [e1]; exact hz) (fun q h1 h2 => by rw [e1]; exact hk q h1 h2) hA hL) (by rw [e1]; exact hce) hcv hcl T' rfl X'
    exact ⟨t2, stp.trans a1, b1⟩
/-- a call of a method that may throw -/
theorem z_callVX (cx : zC p s m args meth c cc own nL ret G H0) {y : MethodName} {cs : ByteArray} {nL' F' L' mc' ms' index j b : Nat} {ret' : Option FieldType} {as st : List Value} {EX : String} {post : Value → Heap → Prop} {XP : Heap → Prop} {A1 : Nat → Prop} {lv : List (Nat × Value)} (hM : zX G l y (ws_ y cs nL' ret') F' L' mc' ms' (.ref b :: as) H EX post XP A1) (hG : GoodIn lw_all (wsV own index y.cls y (ws_ y cs nL' ret'))) (hb : zrec s H y.cls b) (hd : zdesc y j) (hn : as.length = j) (hst : st = as.reverse ++ .ref b :: rest) (hl : lv_has ls nL lv) (hcat : (rest.map fun v => v.category).sum ≤ 8) (hR : F' + 1 ≤ F ∧ 8 + (nL' + 11) + L' ≤ Lw) (hk : k + mc' ≤ mc ∧ n + ms' ≤ ms) (d : decode cc pc = .ok (.invokevirtual index, 3)) (hS : va_S A H0 H locs) (hA : ∀ q : Nat, A1 q → A q)
    (kx : ∀ (q9 : Addr) (ce : Cell) (H1 : Heap) (locs1 : List Loc), XP H1 → H.size ≤ H1.size → (∀ q : Nat, q < H.size → ¬ A1 q → H1[q]? = H[q]?) → va_S A H0 H1 locs1 → H1[q9]? = some ce → ce.vm = .none → s.vm.findClass EX = some ce.cls → vx_W p l e ⟨F, mc, ms, Lw⟩ s m args below meth c H1 locs1 (k + mc') (n + ms') Q (F0 m pc ls rest) q9)
    (kk : ∀ (r : Value) (H1 : Heap) (locs1 : List Loc), post r H1 → H.size ≤ H1.size → (∀ q : Nat, q < H.size → ¬ A1 q → H1[q]? = H[q]?) → va_S A H0 H1 locs1 → W p l e ⟨F, mc, ms, Lw⟩ s m args below meth c H1 locs1 (k + mc') (n + ms') Q (F0 m (pc + 3) ls (r :: rest))) : W p l e ⟨F, mc, ms, Lw⟩ s m args below meth c H locs k n Q (F0 m pc ls st) :=
  zgoX (as := .ref b :: as) hS hA (vx_runV ⟨cx.1, cx.2.1, cx.2.2.1, cx.wn, cx.ts⟩ hM (cwV j cx.ts hG rfl rfl rfl ⟨rfl, hd⟩ hR) ⟨zblind, hb, (zpreS cx (as := .ref b :: as)).2⟩ rfl hn hl.1 hst (lv_room hcat) d hk) kx kk
/-- what a callee threw goes on -/
theorem z_outX (cx : zC p s m args meth c cc own nL ret G H0) (htb : ∀ x ∈ c.exceptionTable.toList, False) {EX : String} {post : Value → Heap → Prop} {XP : Heap → Prop} {q9 : Addr} {ce : Cell} (hp : XP H) (hS : va_S A H0 H locs) (hce : H[q9]? = some ce) (hcv : ce.vm = .none) (hcl : s.vm.findClass EX = some ce.cls) (hk : k ≤ mc ∧ n ≤ ms) : vx_W p l e ⟨F, mc, ms, Lw⟩ s m args below meth c H locs k n (zXQ below EX post XP A args s mc ms) (F0 m pc ls rest) q9 :=
  vx_out (fun x hx => (htb x hx).elim) cx.2.2.2.2.2.2.1 hce hcv hcl (fun t ht _ => ⟨rfl, by rw [ht]; exact hp, zF cx hS ht⟩) hS.2.2 hk.1 hk.2
end ZX2
