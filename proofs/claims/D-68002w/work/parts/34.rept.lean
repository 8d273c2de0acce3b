/-! ===== the model's store in the heap ===== -/
/-- tape, fault, time, the latest request, things, uses -/
abbrev Sg : Type := List Int × Int × Int × Txt × List Th × Nat
abbrev gTape (g : Sg) : List Int := g.1
abbrev gFault (g : Sg) : Int := g.2.1
abbrev gTime (g : Sg) : Int := g.2.2.1
abbrev gReq (g : Sg) : Txt := g.2.2.2.1
abbrev gTs (g : Sg) : List Th := g.2.2.2.2.1
abbrev gUse (g : Sg) : Nat := g.2.2.2.2.2
def SgOk (g : Sg) : Prop := chs (gTape g) ∧ (gTape g).length ≤ 300 ∧ (-1 ≤ gFault g ∧ gFault g ≤ 300) ∧ (0 ≤ gTime g ∧ gTime g ≤ 1000000000) ∧ (gTs g).length ≤ 24 ∧ gUse g < 100000
def PT (x tp th : Nat) (as : List Nat) : Nat → Prop := fun q => q ≠ x ∧ q ≠ tp ∧ q ≠ th ∧ q ∉ as
/-- all of the model's store but its own object -/
def RT2 (G : zE) (H : Heap) (x tp th rt : Nat) (as : List Nat) (tape pad cs : List Int) (lz : Lns) (ts : List Th) : Prop := Ai G H tp 101 (tape ++ pad) ∧ Aq G H th 104 (as.map some ++ List.replicate (25 - as.length) none) ∧ Tx G (PT x tp th as) H rt cs lz ∧ MTs G (PT x tp th as) H as ts
abbrev xT (tp rt th : Nat) (n : Nat) (g : Sg) (thr : Int) : List Value := [.ref tp, .int (iI ((gTape g).length : Int)), .int (iI (gFault g)), .int (iI (gTime g)), .int (iI thr), .long (lN (gUse g)), .ref rt, .ref th, .int (iI (n : Int))]
def RepT (G : zE) (H : Heap) (x : Nat) (thr : Int) (g : Sg) : Prop := ∃ (tp th rt : Nat) (as : List Nat) (pad cs : List Int) (lz : Lns), Ob G H x 5 (xT tp rt th as.length g thr) ∧ RT2 G H x tp th rt as (gTape g) pad cs lz (gTs g) ∧ ((gTape g).length + pad.length = 300 ∧ tln cs lz = gReq g ∧ as.Nodup ∧ (G.2.heap.size ≤ x ∧ G.2.heap.size ≤ tp ∧ G.2.heap.size ≤ th ∧ ∀ a ∈ as, G.2.heap.size ≤ a)) ∧ SgOk g
/-- the cells that a call of the model may write -/
def AT (G : zE) (H0 : Heap) : Nat → Prop := fun q => H0.size ≤ q ∨ (G.2.heap.size ≤ q ∧ (Cl G H0 q 5 ∨ Cl G H0 q 101 ∨ Cl G H0 q 104 ∨ Cl G H0 q 7))
theorem AT.n {G : zE} {H0 : Heap} {q : Nat} (h : H0.size ≤ q) : AT G H0 q := Or.inl h
theorem AT.x {G : zE} {H0 : Heap} {q : Nat} {vs : List Value} (h : Ob G H0 q 5 vs) (hb : G.2.heap.size ≤ q) : AT G H0 q := Or.inr ⟨hb, Or.inl h.cl⟩
theorem AT.t {G : zE} {H0 : Heap} {q : Nat} {vs : List Value} (h : Ob G H0 q 7 vs) (hb : G.2.heap.size ≤ q) : AT G H0 q := Or.inr ⟨hb, Or.inr (Or.inr (Or.inr h.cl))⟩
theorem AT.i {G : zE} {H0 : Heap} {q : Nat} {xs : List Int} (h : Ai G H0 q 101 xs) (hb : G.2.heap.size ≤ q) : AT G H0 q := Or.inr ⟨hb, Or.inr (Or.inl h.cl)⟩
theorem AT.a {G : zE} {H0 : Heap} {q : Nat} {xs : List (Option Nat)} (h : Aq G H0 q 104 xs) (hb : G.2.heap.size ≤ q) : AT G H0 q := Or.inr ⟨hb, Or.inr (Or.inr (Or.inl h.cl))⟩
theorem RT2.ext {G : zE} {H H' : Heap} {x tp th rt : Nat} {as : List Nat} {tape pad cs : List Int} {lz : Lns} {ts : List Th} (h : RT2 G H x tp th rt as tape pad cs lz ts) (e : Ext H H') : RT2 G H' x tp th rt as tape pad cs lz ts := ⟨h.1.ext e, h.2.1.ext e, h.2.2.1.ext e, h.2.2.2.ext e⟩
/-- after a write into the store's own object -/
theorem RT2.kx {G : zE} {U : State} {H H' : Heap} {x tp th rt : Nat} {as : List Nat} {tape pad cs : List Int} {lz : Lns} {ts : List Th} {vs : List Value} (h : RT2 G H x tp th rt as tape pad cs lz ts) (hx : Ob G H x 5 vs) (hK : KK G U) (hq : ∀ q : Nat, q ≠ x → H'[q]? = H[q]?) : RT2 G H' x tp th rt as tape pad cs lz ts := by
  obtain ⟨h1, h2, h3, h4⟩ := h
  have hk : Kp (PT x tp th as) H (PT x tp th as) H' := Kp.put hq (fun q h => h.1)
  exact ⟨h1.kept (hq _ (h1.cl.ne hx.cl hK rfl)), h2.kept (hq _ (h2.cl.ne hx.cl hK rfl)), h3.kp hk, h4.kp hk (fun a ha => by obtain ⟨vs, hv⟩ := h4.ob a ha; exact hq _ (hv.cl.ne hx.cl hK rfl))⟩
theorem Tx.keptc {G : zE} {P : Nat → Prop} {H H' : Heap} {a : Nat} {cs : List Int} {ls : Lns} (h : Tx G P H a cs ls) (hq : ∀ (q c : Nat), q < H.size → Cl G H q c → (c = 6 ∨ c = 101) → H'[q]? = H[q]?) : Tx G P H' a cs ls := by
  obtain ⟨hp, c, b, k, e, bs, ks, es, h1, hpp, h2, h3, h4, h5, h6⟩ := h
  exact ⟨hp, c, b, k, e, bs, ks, es, h1.kept (hq _ _ h1.lt h1.cl (Or.inl rfl)), hpp, h2.kept (hq _ _ h2.lt h2.cl (Or.inr rfl)), h3.kept (hq _ _ h3.lt h3.cl (Or.inr rfl)), h4.kept (hq _ _ h4.lt h4.cl (Or.inr rfl)), h5.kept (hq _ _ h5.lt h5.cl (Or.inr rfl)), h6⟩
theorem Orw.keptc {G : zE} {P : Nat → Prop} {H H' : Heap} {r : Option Nat} {v : Option (List Int)} (h : Orw G P H r v) (hq : ∀ (q c : Nat), q < H.size → Cl G H q c → (c = 101 ∨ c = 105) → H'[q]? = H[q]?) : Orw G P H' r v := by
  cases r <;> cases v <;> simp only [Orw] at h ⊢
  exact ⟨h.1, h.2.kept (hq _ _ h.2.lt h.2.cl (Or.inl rfl))⟩
theorem Rq.keptc {G : zE} {P : Nat → Prop} {H H' : Heap} {a : Nat} {vs : List (Option (List Int))} (h : Rq G P H a vs) (hq : ∀ (q c : Nat), q < H.size → Cl G H q c → (c = 101 ∨ c = 105) → H'[q]? = H[q]?) : Rq G P H' a vs := by
  obtain ⟨hp, rs, h1, h2, h3⟩ := h
  exact ⟨hp, rs, h1.kept (hq _ _ h1.lt h1.cl (Or.inr rfl)), h2, fun i r v hr hv => (h3 i r v hr hv).keptc hq⟩
/-- the model's store stays when none of its classes' cells is written -/
theorem RepT.keptc {G : zE} {H H' : Heap} {x : Nat} {thr : Int} {g : Sg} (h : RepT G H x thr g) (hq : ∀ (q c : Nat), q < H.size → Cl G H q c → (c = 5 ∨ c = 6 ∨ c = 7 ∨ c = 101 ∨ c = 104 ∨ c = 105) → H'[q]? = H[q]?) : RepT G H' x thr g := by
  obtain ⟨tp, th, rt, as, pad, cs, lz, h1, ⟨g1, g2, g3, g4⟩, h3⟩ := h
  refine ⟨tp, th, rt, as, pad, cs, lz, h1.kept (hq _ _ h1.lt h1.cl (by omega)), ⟨g1.kept (hq _ _ g1.lt g1.cl (by omega)), g2.kept (hq _ _ g2.lt g2.cl (by omega)), g3.keptc (fun q c h1 h2 h3 => hq q c h1 h2 (by omega)), g4.1, fun i a t ha ht => ?_⟩, h3⟩
  obtain ⟨k0, re, rv, rw, k1, k2, k3, k4⟩ := g4.2 i a t ha ht
  exact ⟨k0, re, rv, rw, k1.kept (hq _ _ k1.lt k1.cl (by omega)), k2.keptc (fun q c h1 h2 h3 => hq q c h1 h2 (by omega)), k3.keptc (fun q c h1 h2 h3 => hq q c h1 h2 (by omega)), k4.keptc (fun q c h1 h2 h3 => hq q c h1 h2 (by omega))⟩
/-- what thing(i, what) answers; none: it throws -/
def thgA (g : Sg) (i w : Int) : Option Int := if 0 ≤ i ∧ i < ((gTs g).length : Int) then
    match (gTs g)[i.toNat]? with
    | none => none
    | some t => if w = 0 then some (tPath t) else if w = 1 then some (agT t (gTime g)) else if w = 2 then some (tLife t) else if w = 3 then some (b2i (frs t (gTime g))) else if w = 4 then some ((tVary t).length : Int) else if w = 5 then some ((tEtag t).length : Int) else if w = 6 then some (b2i (mka (tCc t))) else if 100 ≤ w ∧ w < 100 + ((tEtag t).length : Int) then (tEtag t)[(w - 100).toNat]? else none
  else none
def passOk (g : Sg) (z : Int) : Bool := decide (1 ≤ z ∧ z ≤ 100000 ∧ gTime g + z ≤ 1000000000)
def sThr (o : Option Int) : Int := match o with
  | none => 1
  | some _ => 0
def sVal (o : Option Int) : Int := match o with
  | none => 0
  | some v => v
section ZL4
variable {p : Program} {l : Launch} {e : Env} {F Lw mc ms : Nat} {s : State} {m : MethodId} {args : Array Value} {below : List Frame} {meth : Method} {c : Code} {H : Heap} {locs : List Loc} {k n : Nat} {Q : State → Prop}
variable {cc : ByteArray} {pc : Nat} {ls : Array Slot} {rest : List Value} {own : String} {nL : Nat} {ret : Option FieldType} {G : zE} {H0 : Heap} {A : Nat → Prop}
theorem z_ldcw (cx : zC p s m args meth c cc own nL ret G H0) {index : Nat} {v : Int32} {z : Int} (hc : Cond.constant own index v ∈ lw_all) (hv : v = iI z) (d : decode cc pc = .ok (.ldc_w index, 3)) (kk : W p l e ⟨F, mc, ms, Lw⟩ s m args below meth c H locs k n Q (F0 m (pc + 3) ls (.int (iI z) :: rest))) : W p l e ⟨F, mc, ms, Lw⟩ s m args below meth c H locs k n Q (F0 m pc ls rest) := by
  subst hv
  exact lv_ldcw cx.1 cx.2.1 cx.wn (cx.ts _ hc) d kk
theorem z_ldc (cx : zC p s m args meth c cc own nL ret G H0) {index : Nat} {v : Int32} {z : Int} (hc : Cond.constant own index v ∈ lw_all) (hv : v = iI z) (d : decode cc pc = .ok (.ldc index, 2)) (kk : W p l e ⟨F, mc, ms, Lw⟩ s m args below meth c H locs k n Q (F0 m (pc + 2) ls (.int (iI z) :: rest))) : W p l e ⟨F, mc, ms, Lw⟩ s m args below meth c H locs k n Q (F0 m pc ls rest) := by
  subst hv
  exact lv_ldc cx.1 cx.2.1 cx.wn (cx.ts _ hc) d kk
/-- a switch by its number -/
theorem z_swIn (cx : zC p s m args meth c cc own nL ret G H0) {dflt lo hi : Int} {offs : Array Int} {len : Nat} {z off : Int} {tgt : Nat} (d : decode cc pc = .ok (.tableswitch dflt lo hi offs, len)) (hr : rg z) (h1 : lo ≤ z ∧ z ≤ hi) (ho : offs[(z - lo).toNat]? = some off) (ht : (pc : Int) + off = (tgt : Int)) (kk : W p l e ⟨F, mc, ms, Lw⟩ s m args below meth c H locs k n Q (F0 m tgt ls rest)) : W p l e ⟨F, mc, ms, Lw⟩ s m args below meth c H locs k n Q (F0 m pc ls (.int (iI z) :: rest)) :=
  lv_tableIn cx.1 cx.2.1 d (by rw [iI_toInt hr]; omega) (by rw [iI_toInt hr]; omega) (by rw [iI_toInt hr]; exact ho) ht kk
theorem z_swOut (cx : zC p s m args meth c cc own nL ret G H0) {dflt lo hi : Int} {offs : Array Int} {len : Nat} {z : Int} {tgt : Nat} (d : decode cc pc = .ok (.tableswitch dflt lo hi offs, len)) (hr : rg z) (h1 : z < lo ∨ hi < z) (ht : (pc : Int) + dflt = (tgt : Int)) (kk : W p l e ⟨F, mc, ms, Lw⟩ s m args below meth c H locs k n Q (F0 m tgt ls rest)) : W p l e ⟨F, mc, ms, Lw⟩ s m args below meth c H locs k n Q (F0 m pc ls (.int (iI z) :: rest)) :=
  lv_tableOut cx.1 cx.2.1 d (by rw [iI_toInt hr]; exact h1) ht kk
end ZL4
