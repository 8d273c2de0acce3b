/-! ===== rows for the law: a row of one long; methods with handlers ===== -/
/-- a row of one long -/
def Al (G : zE) (H : Heap) (a : Nat) (v : Int64) : Prop := va_at G.1 zcl (a, .inl (G.1.1 102, 1, .inr (.inl (fun _ => v)))) H
theorem Al.lt {G : zE} {H : Heap} {a : Nat} {v : Int64} (h : Al G H a v) : a < H.size := va_at.lt h
theorem Al.kept {G : zE} {H H1 : Heap} {a : Nat} {v : Int64} (h : Al G H a v) (e : H1[a]? = H[a]?) : Al G H1 a v := va_at.kept h e
theorem Al.ext {G : zE} {H H1 : Heap} {a : Nat} {v : Int64} (h : Al G H a v) (e : Ext H H1) : Al G H1 a v := h.kept (e.2 a h.lt)
theorem Al.cl {G : zE} {H : Heap} {a : Nat} {v : Int64} (h : Al G H a v) : Cl G H a 102 := ⟨_, h, rfl⟩
section ZLG
variable {p : Program} {l : Launch} {e : Env} {F Lw mc ms : Nat} {s : State} {m : MethodId} {args : Array Value} {below : List Frame} {meth : Method} {c : Code} {H : Heap} {locs : List Loc} {k n : Nat} {Q : State → Prop}
variable {cc : ByteArray} {pc : Nat} {ls : Array Slot} {rest : List Value} {own : String} {nL : Nat} {ret : Option FieldType} {G : zE} {H0 : Heap} {A : Nat → Prop}
theorem z_newL (cx : zC p s m args meth c cc own nL ret G H0) (hS : va_S A H0 H locs) (hk : k + 1 ≤ mc ∧ n + 1 ≤ ms) (d : decode cc pc = .ok (.newarray .long, 2))
    (kk : ∀ (q : Nat) (H1 : Heap), q = H.size → H0.size ≤ q → Al G H1 q 0 → H1.size = H.size + 1 → Ext H H1 → va_S A H0 H1 locs → W p l e ⟨F, mc, ms, Lw⟩ s m args below meth c H1 locs (k + 1) (n + 1) Q (F0 m (pc + 2) ls (.ref q :: rest))) : W p l e ⟨F, mc, ms, Lw⟩ s m args below meth c H locs k n Q (F0 m pc ls (.int (iI 1) :: rest)) := by
  refine va_newaK (atype := .long) cx.1 cx.2.1 (cx.ts _ q1406) rfl d rfl (n := iI 1) (N := 1) (by decide) (by decide) (by decide) hk.1 hk.2 rfl fun H1 cA e1 z1 o1 hAr hNm => ?_
  have hc : cA = G.1.1 102 := Option.some.inj (hNm.symm.trans (cx.arr (t0 := 2) rfl).2)
  subst hc
  exact kk H.size H1 rfl hS.1 e1 z1 ⟨by omega, o1⟩ ⟨Nat.le_trans hS.1 (by omega), fun x h1 h2 => (o1 x (Nat.lt_of_lt_of_le h1 hS.1)).trans (hS.2.1 x h1 h2), hS.2.2⟩
theorem z_lald (cx : zC p s m args meth c cc own nL ret G H0) {a : Nat} {v : Int64} (h : Al G H a v) (d : decode cc pc = .ok (.laload, 1))
    (kk : W p l e ⟨F, mc, ms, Lw⟩ s m args below meth c H locs k n Q (F0 m (pc + 1) ls (.long v :: rest))) : W p l e ⟨F, mc, ms, Lw⟩ s m args below meth c H locs k n Q (F0 m pc ls (.int (iI 0) :: .ref a :: rest)) :=
  va_lald (f := fun _ => v) cx.1 cx.2.1 cx.K (va1 h) 0 2 rfl rfl (iI_in (z := 0) (i := 0) ⟨rfl, by decide, by decide⟩) d kk
theorem z_last (cx : zC p s m args meth c cc own nL ret G H0) {a : Nat} {v w : Int64} (h : Al G H a v) (hA : A a) (hS : va_S A H0 H locs) (d : decode cc pc = .ok (.lastore, 1))
    (kk : ∀ (H1 : Heap) (locs1 : List Loc), Al G H1 a w → H1.size = H.size → (∀ q : Nat, q ≠ a → H1[q]? = H[q]?) → va_S A H0 H1 locs1 → W p l e ⟨F, mc, ms, Lw⟩ s m args below meth c H1 locs1 k n Q (F0 m (pc + 1) ls rest)) : W p l e ⟨F, mc, ms, Lw⟩ s m args below meth c H locs k n Q (F0 m pc ls (.long w :: .int (iI 0) :: .ref a :: rest)) := by
  refine W.last cx.1 cx.2.1 (cell := vp_cell (G.1.1 102) (1, .inr (.inl (fun _ => v)))) h ((cx.arr (t0 := 2) rfl).1 1 (fun _ => .long v)) (fun q => by cases q) (by show ¬ (iI 0 < 0 ∨ (arrV _ _ _).slots.size ≤ _); rw [arrV_size]; show ¬ (iI 0 < 0 ∨ 1 ≤ (iI 0).toNatClampNeg); decide) rfl rfl d fun H1 e1 z1 oq => ?_
  refine kk H1 _ ?_ z1 oq (hS.put z1 oq hA)
  show H1[a]? = some (vp_cell _ _)
  rw [e1, vp_cell_l, vp_cell_l, arrV_store]
  rfl
/-- what was thrown is caught by the one row of this method's table -/
theorem z_catch (cx : zC p s m args meth c cc own nL ret G H0) {a b h ct : Nat} (htb : c.exceptionTable.toList = tableOf [(a, b, h, ct)]) {EX : String} (hcov : covers ⟨a, b, h, ct⟩ pc = true) (hct : ct ≠ 0) (hlink : Cond.classLink own ct EX ∈ lw_all) (hcast : Cond.castable EX EX ∈ lw_tbl) {q9 : Addr} {ce : Cell} (hce : H[q9]? = some ce) (hcv : ce.vm = .none) (hcl : s.vm.findClass EX = some ce.cls)
    (kk : W p l e ⟨F, mc, ms, Lw⟩ s m args below meth c H locs k n Q (F0 m h ls [.ref q9])) : vx_W p l e ⟨F, mc, ms, Lw⟩ s m args below meth c H locs k n Q (F0 m pc ls rest) q9 :=
  vx_catch cx.wn [] ⟨a, b, h, ct⟩ [] htb (fun z hz => nomatch hz) hcov hct (cx.ts _ hlink) (va_Nw.use rfl (cx.cast hcast)) hce hcv hcl kk
/-- a static call of a method with handlers that always answers -/
theorem z_callSW (cx : zC p s m args meth c cc own nL ret G H0) {y : MethodName} {cs : ByteArray} {nL' F' L' mc' ms' index j : Nat} {ret' : Option FieldType} {hh : List (Nat × Nat × Nat × Nat)} {as st : List Value} {EX : String} {post : Value → Heap → Prop} {A1 : Nat → Prop} {lv : List (Nat × Value)} (hM : zX G l y (wsW_ y cs nL' ret' hh) F' L' mc' ms' as H EX post (fun _ => False) A1) (hG : GoodIn lw_all (va_wsS own index y (wsW_ y cs nL' ret' hh))) (hd : zdesc y j) (hn : as.length = j) (hst : st = as.reverse ++ rest) (hl : lv_has ls nL lv) (hcat : (rest.map fun v => v.category).sum ≤ 8) (hR : F' + 1 ≤ F ∧ 8 + (nL' + 11) + L' ≤ Lw) (hk : k + mc' ≤ mc ∧ n + ms' ≤ ms) (d : decode cc pc = .ok (.invokestatic index, 3)) (hS : va_S A H0 H locs) (hA : ∀ q : Nat, A1 q → A q)
    (kk : ∀ (r : Value) (H1 : Heap) (locs1 : List Loc), post r H1 → H.size ≤ H1.size → (∀ q : Nat, q < H.size → ¬ A1 q → H1[q]? = H[q]?) → va_S A H0 H1 locs1 → W p l e ⟨F, mc, ms, Lw⟩ s m args below meth c H1 locs1 (k + mc') (n + ms') Q (F0 m (pc + 3) ls (r :: rest))) : W p l e ⟨F, mc, ms, Lw⟩ s m args below meth c H locs k n Q (F0 m pc ls st) :=
  zgoX (as := as) hS hA (vx_runSX ⟨cx.1, cx.2.1, cx.2.2.1, cx.wn, cx.ts⟩ hM (vx_cwSW j cx.ts hG rfl rfl rfl hd hR) (zpreS cx) rfl hn hl.1 hst (lv_room hcat) d hk) (fun _ _ _ _ hF => hF.elim) kk
end ZLG
theorem zXW.start {l : Launch} {y : MethodName} {cc : ByteArray} {nL : Nat} {ret : Option FieldType} {hh : List (Nat × Nat × Nat × Nat)} {F Lw mc ms : Nat} {as : List Value} {H0 : Heap} {A : Nat → Prop} {G : zE} {EX : String} {post : Value → Heap → Prop} {XP : Heap → Prop} (hy : plainName y.cls = true) (hn : (lg_sl as).length ≤ nL)
    (body : ∀ (p : Program) (e : Env) (s : State) (m : MethodId) (args : Array Value) (below : List Frame) (meth : Method) (c : Code) (Q : State → Prop), zC p s m args meth c cc y.cls nL ret G H0 → Q = zXQ below EX post XP A args s mc ms → c.exceptionTable.toList = tableOf hh → ∀ ls : Array Slot, lv_has ls nL (lv_args 0 as) →
      W p l e ⟨F, mc, ms, Lw⟩ s m args below meth c H0 [] 0 0 Q (F0 m 0 ls [])) : zX G l y (wsW_ y cc nL ret hh) F Lw mc ms as H0 EX post XP A := by
  refine vx_ofWH (cc := cc) (maxL := nL) (ret := ret) (hh := hh) hy rfl ?_
  intro p e s m args below meth c s₁ B hml hv
  obtain ⟨rfl, hH, hK⟩ := hv
  have hts := atoms_spec (ws := wsW_ y cc nL ret hh) B.pre
  have htb := vx_table (x := y) B (hts _ List.mem_cons_self)
  have hts : ∀ w ∈ lw_all, w.before _ s = true := fun w h => hts w (List.mem_cons_of_mem _ h)
  have hl := lv_entry as (n := nL) hn
  rw [lg_entry_eq]
  rw [hH]
  exact body p e s m _ below meth c _ ⟨B.exec, B.bytes, hml, findClass_of_methodNamed B.named, hts, B.returns, B.notSynchronized, hK, hH⟩ rfl htb _ hl
/-! the component's store over a write into a row of longs -/
theorem RepC.overL {G : zE} {U : State} {H H1 : Heap} {x o : Nat} {cs : List Bool} {g : Sg} {v : Int64} (hK : KK G U) (h : RepC G H x cs g) (ho : Al G H o v) (hk : ∀ q : Nat, q ≠ o → H1[q]? = H[q]?) : RepC G H1 x cs g := h.kc hK (fun q h1 h2 => hk q (fun e => h2 (e ▸ Or.inr (Or.inr (Or.inr (Or.inr ho.cl))))))
theorem RepT.overL {G : zE} {U : State} {H H1 : Heap} {x o : Nat} {thr : Int} {g : Sg} {v : Int64} (hK : KK G U) (h : RepT G H x thr g) (ho : Al G H o v) (hk : ∀ q : Nat, q ≠ o → H1[q]? = H[q]?) : RepT G H1 x thr g := h.keptc (fun q c h1 h2 h3 => hk q (fun e => by
  subst e
  rcases h3 with e | e | e | e | e | e <;> subst e <;> exact absurd rfl (h2.ne ho.cl hK rfl)))
theorem Al.overC {G : zE} {U : State} {H H1 : Heap} {o : Nat} {v : Int64} (hK : KK G U) (h : Al G H o v) (hk : ∀ q : Nat, q < H.size → ¬ AC G H q → H1[q]? = H[q]?) : Al G H1 o v := h.kept (hk o h.lt (fun z => by
  rcases z with z | ⟨-, z⟩
  · exact absurd h.lt (Nat.not_lt.mpr z)
  · rcases z with z | z | z | z | z | z <;> exact absurd rfl (h.cl.ne z hK rfl)))
theorem Al.overT {G : zE} {U : State} {H H1 : Heap} {o : Nat} {v : Int64} (hK : KK G U) (h : Al G H o v) (hk : ∀ q : Nat, q < H.size → ¬ AT G H q → H1[q]? = H[q]?) : Al G H1 o v := h.kept (hk o h.lt (fun z => by
  rcases z with z | ⟨-, z⟩
  · exact absurd h.lt (Nat.not_lt.mpr z)
  · rcases z with z | z | z | z <;> exact absurd rfl (h.cl.ne z hK rfl)))
section ZLS
variable {p : Program} {l : Launch} {e : Env} {F Lw mc ms : Nat} {s : State} {m : MethodId} {args : Array Value} {below : List Frame} {meth : Method} {c : Code} {H : Heap} {locs : List Loc} {k n : Nat} {Q : State → Prop}
variable {cc : ByteArray} {pc : Nat} {ls : Array Slot} {rest : List Value} {own : String} {nL : Nat} {ret : Option FieldType} {G : zE} {H0 : Heap} {A : Nat → Prop}
/-- the script -/
theorem z_sld (cx : zC p s m args meth c cc own nL ret G H0) {b L : Nat} {xs : Nat → Int32} {zs : Nat → Int} (hX : va_X b L xs s H0) (hbl : b < H0.size) (hzs : ∀ i : Nat, xs i = iI (zs i) ∧ rg (zs i)) (hS : va_S (Pur H0) H0 H locs) {z : Int} (i : Nat) (hz : z = (i : Int) ∧ i < L ∧ i < 2147483648) (d : decode cc pc = .ok (.iaload, 1))
    (kk : W p l e ⟨F, mc, ms, Lw⟩ s m args below meth c H locs k n Q (F0 m (pc + 1) ls (.int (iI (zs i)) :: rest))) : W p l e ⟨F, mc, ms, Lw⟩ s m args below meth c H locs k n Q (F0 m pc ls (.int (iI z) :: .ref b :: rest)) := by
  refine va_sld cx.1 cx.2.1 hX hbl (Nat.not_le.mpr hbl) hS (iI_in hz) d ?_
  rw [iI_cl hz, (hzs i).1]
  exact kk
theorem z_slen (cx : zC p s m args meth c cc own nL ret G H0) {b L : Nat} {xs : Nat → Int32} (hX : va_X b L xs s H0) (hbl : b < H0.size) (hS : va_S (Pur H0) H0 H locs) (d : decode cc pc = .ok (.arraylength, 1))
    (kk : W p l e ⟨F, mc, ms, Lw⟩ s m args below meth c H locs k n Q (F0 m (pc + 1) ls (.int (iI (L : Int)) :: rest))) : W p l e ⟨F, mc, ms, Lw⟩ s m args below meth c H locs k n Q (F0 m pc ls (.ref b :: rest)) :=
  va_slen cx.1 cx.2.1 hX hbl (Nat.not_le.mpr hbl) hS d (by rw [iI_ofNat]; exact kk)
theorem z_iand15 (cx : zC p s m args meth c cc own nL ret G H0) {z w : Int} (h : iI z &&& iI 15 = iI w) (d : decode cc pc = .ok (.iand, 1)) (kk : W p l e ⟨F, mc, ms, Lw⟩ s m args below meth c H locs k n Q (F0 m (pc + 1) ls (.int (iI w) :: rest))) : W p l e ⟨F, mc, ms, Lw⟩ s m args below meth c H locs k n Q (F0 m pc ls (.int (iI 15) :: .int (iI z) :: rest)) :=
  lv_iand cx.1 cx.2.1 d (by rw [h]; exact kk)
end ZLS
