/-! ===== null into a row of rows; the store with a thing in the making ===== -/
section ZAN
variable {p : Program} {l : Launch} {e : Env} {F Lw mc ms : Nat} {s : State} {m : MethodId} {args : Array Value} {below : List Frame} {meth : Method} {c : Code} {H : Heap} {locs : List Loc} {k n : Nat} {Q : State → Prop}
variable {cc : ByteArray} {pc : Nat} {ls : Array Slot} {rest : List Value} {own : String} {nL : Nat} {ret : Option FieldType} {G : zE} {H0 : Heap} {A : Nat → Prop}
theorem z_aastN0 {R : Room} {cells slots : Nat} {T : State} (X : Stand p l e R s m args below meth c T locs cells slots) (hexec : p.tables.exec = Jvm.exec) {a : Addr} {cell : Cell} {ty : FieldType} {j : Int32} (hcell : T.heap[a]? = some cell) (harr : s.isArrayOf cell (.array ty)) (hknown : cell.vm ≠ .unknown)
    (hin : ¬ (j < 0 ∨ cell.slots.size ≤ j.toNatClampNeg))
    {g : JFrame} (hg : g.method = m) {rest : List Value} (hstack : g.stack = .null :: .int j :: .ref a :: rest) (hdg : decode c.code g.pc = .ok (.aastore, 1)) :
    Stand p l e R s m args below meth c (T.setCell a (cell.setSlot j.toNatClampNeg .null)) (locs ++ [⟨a, j.toNatClampNeg⟩]) cells slots ∧
      ∀ target, Steps p.tables e below ((T.setCell a (cell.setSlot j.toNatClampNeg .null)).setTop { g with pc := g.pc + 1, stack := rest }) target → Steps p.tables e below (T.setTop g) target := by
  have hT := State.isArrayOf_alike X.warmed.alike harr
  have hfit : T.fitsSlot cell.cls cell.vm j.toNatClampNeg .null = true := by
    obtain ⟨hobj, k, hk, comp, hkind⟩ := hT
    cases hvm : cell.vm <;> first | exact absurd hvm (hobj _) | simp [State.fitsSlot, State.slotType?, hk, hkind, fits]
  refine ⟨X.stored hcell _ _, fun target hrest => ?_⟩
  subst hg
  jvm_step X.here [hexec, hdg]
  refine aastore.wp_of_null (c := cell) (t := .array ty) X.here.top hstack hcell hT hin hknown (Nat.not_le.mp fun q => hin (Or.inr q)) hfit ?_
  intro acts
  rw [afterInstr_ok]
  exact hrest
theorem z_WaastN {R : Room} {cells slots : Nat} (hexec : p.tables.exec = Jvm.exec) (hb : c.code = cc) {a : Addr} {cell : Cell} {ty : FieldType} {j : Int32} (hcell : H[a]? = some cell) (harr : s.isArrayOf cell (.array ty)) (hknown : cell.vm ≠ .unknown) (hin : ¬ (j < 0 ∨ cell.slots.size ≤ j.toNatClampNeg))
    {g : JFrame} (hg : g.method = m) {rest : List Value} (hstack : g.stack = .null :: .int j :: .ref a :: rest) (hdg : decode cc g.pc = .ok (.aastore, 1))
    (kk : ∀ H' : Heap, H'[a]? = some (cell.setSlot j.toNatClampNeg .null) → H'.size = H.size → (∀ q, q ≠ a → H'[q]? = H[q]?) → W p l e R s m args below meth c H' (locs ++ [⟨a, j.toNatClampNeg⟩]) cells slots Q { g with pc := g.pc + 1, stack := rest }) :
    W p l e R s m args below meth c H locs cells slots Q g := by
  intro T hT X
  have hT' : T.heap[a]? = some cell := by rw [hT]; exact hcell
  obtain ⟨X', st⟩ := z_aastN0 X hexec hT' harr hknown hin hg hstack (by rw [hb]; exact hdg)
  have hlt : a < T.heap.size := (Array.getElem?_eq_some_iff.mp hT').1
  obtain ⟨t', a1, b1⟩ := kk _ (heapAt_setCell_self _ hlt) (by rw [size_setCell, hT]) (fun q hq => by rw [heapAt_setCell_ne _ (Ne.symm hq), hT]) (T.setCell a (cell.setSlot j.toNatClampNeg .null)) rfl X'
  exact ⟨t', st t' a1, b1⟩
theorem z_aastRN (cx : zC p s m args meth c cc own nL ret G H0) {a : Nat} {rs : List (Option Nat)} {z : Int} (h : Aq G H a 105 rs) (hA : A a) (hS : va_S A H0 H locs) (i : Nat) (hz : z = (i : Int) ∧ i < rs.length ∧ i < 2147483648) (d : decode cc pc = .ok (.aastore, 1))
    (kk : ∀ (H1 : Heap) (locs1 : List Loc), Aq G H1 a 105 (rs.set i none) → H1.size = H.size → (∀ q : Nat, q ≠ a → H1[q]? = H[q]?) → va_S A H0 H1 locs1 → W p l e ⟨F, mc, ms, Lw⟩ s m args below meth c H1 locs1 k n Q (F0 m (pc + 1) ls rest)) : W p l e ⟨F, mc, ms, Lw⟩ s m args below meth c H locs k n Q (F0 m pc ls (.null :: .int (iI z) :: .ref a :: rest)) := by
  have hin := iI_in hz
  refine z_WaastN (ty := .int) cx.1 cx.2.1 (cell := vp_cell (G.1.1 105) (rs.length, .inr (.inr (.inr (.inr (fun j => rs.getD j none)))))) h ((cx.arr (t0 := 5) rfl).1 rs.length (fun j => va_rf (rs.getD j none))) (fun h => by cases h) (by show ¬ (iI z < 0 ∨ (arrV _ _ _).slots.size ≤ _); rw [arrV_size]; exact hin) rfl rfl d fun H1 e1 z1 oq => ?_
  refine kk H1 _ (Aq.setOf ?_) z1 oq (hS.put z1 oq hA)
  show H1[a]? = some (vp_cell _ _)
  rw [e1, vp_cell_q, vp_cell_q, arrV_store, iI_cl hz]
  congr 2
  funext q
  by_cases hq : q = i
  · subst hq
    simp [updV, va_up, va_rf]
  · simp [updV, va_up, hq]
/-- a row that may be null into a row of rows -/
theorem z_aastRq (cx : zC p s m args meth c cc own nL ret G H0) {a : Nat} {r : Option Nat} {v : Option (List Int)} {P : Nat → Prop} {rs : List (Option Nat)} {z : Int} (h : Aq G H a 105 rs) (hv : Orw G P H r v) (hA : A a) (hS : va_S A H0 H locs) (i : Nat) (hz : z = (i : Int) ∧ i < rs.length ∧ i < 2147483648) (d : decode cc pc = .ok (.aastore, 1))
    (kk : ∀ (H1 : Heap) (locs1 : List Loc), Aq G H1 a 105 (rs.set i r) → H1.size = H.size → (∀ q : Nat, q ≠ a → H1[q]? = H[q]?) → va_S A H0 H1 locs1 → W p l e ⟨F, mc, ms, Lw⟩ s m args below meth c H1 locs1 k n Q (F0 m (pc + 1) ls rest)) : W p l e ⟨F, mc, ms, Lw⟩ s m args below meth c H locs k n Q (F0 m pc ls (va_rf r :: .int (iI z) :: .ref a :: rest)) := by
  cases r with
  | none => exact z_aastRN cx h hA hS i hz d kk
  | some b =>
    cases v with
    | none => exact hv.elim
    | some xs => exact z_aastR cx h hv.2 hA hS i hz d kk
end ZAN
/-- as RT2, but the rows keep off more cells -/
def RT3 (G : zE) (H : Heap) (x tp th rt : Nat) (as bs : List Nat) (tape pad cs : List Int) (lz : Lns) (ts : List Th) : Prop := Ai G H tp 101 (tape ++ pad) ∧ Aq G H th 104 (as.map some ++ List.replicate (25 - as.length) none) ∧ Tx G (PT x tp th bs) H rt cs lz ∧ MTs G (PT x tp th bs) H as ts
theorem PT.kb {H H1 : Heap} {x tp th b : Nat} {bs : List Nat} (hb : b ∈ bs) (hk : ∀ q : Nat, q < H.size → ¬ (H.size ≤ q ∨ q = b) → H1[q]? = H[q]?) : Kp (PT x tp th bs) H (PT x tp th bs) H1 := fun q hq hp => ⟨hp, hk q hq (by rintro (z | z); exact absurd hq (Nat.not_lt.mpr z); exact hp.2.2.2 (by rw [z]; exact hb))⟩
theorem PT.kxt {H H1 : Heap} {x tp th : Nat} {bs : List Nat} (hk : ∀ q : Nat, q < H.size → ¬ (H.size ≤ q ∨ q = x ∨ q = th) → H1[q]? = H[q]?) : Kp (PT x tp th bs) H (PT x tp th bs) H1 := fun q hq hp => ⟨hp, hk q hq (by rintro (z | z | z); exact absurd hq (Nat.not_lt.mpr z); exact hp.1 z; exact hp.2.2.1 z)⟩
theorem PT.grow {H H1 : Heap} {x tp th g : Nat} {bs : List Nat} (hg : H.size ≤ g) (e : Ext H H1) : Kp (PT x tp th bs) H (PT x tp th (bs ++ [g])) H1 := fun q hq hp => ⟨⟨hp.1, hp.2.1, hp.2.2.1, fun z => by
  rcases List.mem_append.mp z with z | z
  · exact hp.2.2.2 z
  · have := List.mem_singleton.mp z; omega⟩, e.2 q hq⟩
theorem RT3.of {G : zE} {H : Heap} {x tp th rt : Nat} {as : List Nat} {tape pad cs : List Int} {lz : Lns} {ts : List Th} (h : RT2 G H x tp th rt as tape pad cs lz ts) : RT3 G H x tp th rt as as tape pad cs lz ts := h
theorem RT3.to {G : zE} {H : Heap} {x tp th rt : Nat} {as bs : List Nat} {tape pad cs : List Int} {lz : Lns} {ts : List Th} (h : RT3 G H x tp th rt as bs tape pad cs lz ts) (hs : ∀ a ∈ as, a ∈ bs) : RT2 G H x tp th rt as tape pad cs lz ts := ⟨h.1, h.2.1, h.2.2.1.kp (Kp.weak (fun q _ hp => PT.sub hs hp)), h.2.2.2.kp (Kp.weak (fun q _ hp => PT.sub hs hp)) (fun _ _ => rfl)⟩
theorem RT3.ext {G : zE} {H H' : Heap} {x tp th rt : Nat} {as bs : List Nat} {tape pad cs : List Int} {lz : Lns} {ts : List Th} (h : RT3 G H x tp th rt as bs tape pad cs lz ts) (e : Ext H H') : RT3 G H' x tp th rt as bs tape pad cs lz ts := ⟨h.1.ext e, h.2.1.ext e, h.2.2.1.ext e, h.2.2.2.ext e⟩
theorem RT3.grow {G : zE} {H H' : Heap} {x tp th rt g : Nat} {as bs : List Nat} {tape pad cs : List Int} {lz : Lns} {ts : List Th} (h : RT3 G H x tp th rt as bs tape pad cs lz ts) (hg : H.size ≤ g) (e : Ext H H') : RT3 G H' x tp th rt as (bs ++ [g]) tape pad cs lz ts := ⟨h.1.ext e, h.2.1.ext e, h.2.2.1.kp (PT.grow hg e), h.2.2.2.kp (PT.grow hg e) (fun a ha => by obtain ⟨vs, hv⟩ := h.2.2.2.ob a ha; exact e.2 a hv.lt)⟩
theorem RT3.kb {G : zE} {H H1 : Heap} {x tp th rt b : Nat} {as bs : List Nat} {tape pad cs : List Int} {lz : Lns} {ts : List Th} (h : RT3 G H x tp th rt as bs tape pad cs lz ts) (hb : b ∈ bs) (hn : b ∉ as ∧ b ≠ tp ∧ b ≠ th) (hk : ∀ q : Nat, q < H.size → ¬ (H.size ≤ q ∨ q = b) → H1[q]? = H[q]?) : RT3 G H1 x tp th rt as bs tape pad cs lz ts := by
  obtain ⟨h1, h2, h3, h4⟩ := h
  have kp := PT.kb (x := x) (tp := tp) (th := th) hb hk
  exact ⟨h1.kept (hk tp h1.lt (by rintro (z | z); exact absurd h1.lt (Nat.not_lt.mpr z); exact hn.2.1 z.symm)), h2.kept (hk th h2.lt (by rintro (z | z); exact absurd h2.lt (Nat.not_lt.mpr z); exact hn.2.2 z.symm)), h3.kp kp, h4.kp kp (fun a ha => by obtain ⟨vs, hv⟩ := h4.ob a ha; exact hk a hv.lt (by rintro (z | z); exact absurd hv.lt (Nat.not_lt.mpr z); exact hn.1 (by rw [← z]; exact ha)))⟩
theorem RT3.rm {G : zE} {U : State} {H H1 : Heap} {x tp th rt i : Nat} {as bs : List Nat} {tape pad cs : List Int} {lz : Lns} {ts : List Th} {vs : List Value} (h : RT3 G H x tp th rt as bs tape pad cs lz ts) (hx : Ob G H x 5 vs) (hK : KK G U) (hk : ∀ q : Nat, q < H.size → ¬ (H.size ≤ q ∨ q = x ∨ q = th) → H1[q]? = H[q]?) (hth : Aq G H1 th 104 ((rmi as i).map some ++ List.replicate (25 - (rmi as i).length) none)) : RT3 G H1 x tp th rt (rmi as i) bs tape pad cs lz (rmi ts i) := by
  obtain ⟨h1, h2, h3, h4⟩ := h
  have kp := PT.kxt (tp := tp) (bs := bs) hk
  have hg : ∀ a ∈ as, H1[a]? = H[a]? := fun a ha => by
    obtain ⟨vs, hv⟩ := h4.ob a ha
    exact hk a hv.lt (by rintro (z | z | z); exact absurd hv.lt (Nat.not_lt.mpr z); exact hv.cl.ne hx.cl hK rfl z; exact hv.cl.ne h2.cl hK rfl z)
  exact ⟨h1.kept (hk tp h1.lt (by rintro (z | z | z); exact absurd h1.lt (Nat.not_lt.mpr z); exact h1.cl.ne hx.cl hK rfl z; exact h1.cl.ne h2.cl hK rfl z)), hth, h3.kp kp, (h4.kp kp hg).rm i⟩
theorem RT3.put {G : zE} {U : State} {H H1 : Heap} {x tp th rt g : Nat} {as bs : List Nat} {tape pad cs : List Int} {lz : Lns} {ts : List Th} {vs : List Value} {t : Th} (h : RT3 G H x tp th rt as bs tape pad cs lz ts) (hx : Ob G H x 5 vs) (hK : KK G U) (hgb : g ∈ bs) (hga : g ∉ as) (hgt : g ≠ tp) (hk : ∀ q : Nat, q < H.size → ¬ (H.size ≤ q ∨ q = x ∨ q = th ∨ q = g) → H1[q]? = H[q]?) (hth : Aq G H1 th 104 ((as ++ [g]).map some ++ List.replicate (25 - (as ++ [g]).length) none)) (hM : MTh G (PT x tp th bs) H1 g t) : RT3 G H1 x tp th rt (as ++ [g]) bs tape pad cs lz (ts ++ [t]) := by
  obtain ⟨h1, h2, h3, h4⟩ := h
  have kp : Kp (PT x tp th bs) H (PT x tp th bs) H1 := fun q hq hp => ⟨hp, hk q hq (by rintro (z | z | z | z); exact absurd hq (Nat.not_lt.mpr z); exact hp.1 z; exact hp.2.2.1 z; exact hp.2.2.2 (by rw [z]; exact hgb))⟩
  have hg : ∀ a ∈ as, H1[a]? = H[a]? := fun a ha => by
    obtain ⟨vs, hv⟩ := h4.ob a ha
    exact hk a hv.lt (by rintro (z | z | z | z); exact absurd hv.lt (Nat.not_lt.mpr z); exact hv.cl.ne hx.cl hK rfl z; exact hv.cl.ne h2.cl hK rfl z; exact hga (by rw [← z]; exact ha))
  exact ⟨h1.kept (hk tp h1.lt (by rintro (z | z | z | z); exact absurd h1.lt (Nat.not_lt.mpr z); exact h1.cl.ne hx.cl hK rfl z; exact h1.cl.ne h2.cl hK rfl z; exact hgt z.symm)), hth, h3.kp kp, MTs.snoc (h4.kp kp hg) hM⟩
/-- cells made from here on keep off the store and all that is in the making -/
theorem RT3.nw {G : zE} {H H1 : Heap} {x tp th rt : Nat} {as ds : List Nat} {tape pad cs : List Int} {lz : Lns} {ts : List Th} {vs : List Value} (h : RT3 G H x tp th rt as (as ++ ds) tape pad cs lz ts) (hx : Ob G H x 5 vs) (hd : ∀ a ∈ ds, a < H.size) : Kp (Pur H) H1 (PT x tp th (as ++ ds)) H1 := Kp.weak fun q _ hq => by
  have hq : H.size ≤ q := hq
  have h1 := h.1.lt
  have h2 := h.2.1.lt
  have h3 := hx.lt
  refine ⟨by omega, by omega, by omega, fun z => ?_⟩
  rcases List.mem_append.mp z with z | z
  · obtain ⟨vs, hv⟩ := h.2.2.2.ob q z
    have := hv.lt
    omega
  · have := hd q z; omega
/-- keeping: the thing made, whether it may be kept, the store behind it -/
def kVy (T : Txt) : List (List Int) := match vof T nVary with
  | none => []
  | some v => lst (v.map smI)
def kVs (R : Txt) (vy : List (List Int)) : List (Option (List Int)) := vy.map (fun w => vof R w)
def kTh (g : Sg) (p : Int) : Th := (p, (etg (rdX g)).getD [], kVy (rdX g), kVs (gReq g) (kVy (rdX g)), vof (rdX g) nCc, lifeOf (wrd (vof (rdX g) nCc) nSm) (wrd (vof (rdX g) nCc) nMa) (rdX g), ageIn (rdX g), gTime g, 0)
def kMay (g : Sg) (p : Int) : Bool := !hasW (vof (rdX g) nCc) nNs && !hasW (vof (rdX g) nCc) nPriv && !star (kVy (rdX g)) && !hasW (vof (gReq g) nCc) nNs && (decide (0 < tLife (kTh g p)) || decide (etg (rdX g) ≠ none))
def kTs1 (g : Sg) (p : Int) : List Th := if fix1 (isLk (kTh g p)) (gTs g) 0 = -1 then gTs g else rmi (gTs g) (fix1 (isLk (kTh g p)) (gTs g) 0).toNat
def kTs2 (g : Sg) (p : Int) : List Th := kTs1 g p ++ [useT (kTh g p) (gUse g + 1)]
def kTs3 (g : Sg) (p : Int) : List Th := if 24 < (kTs2 g p).length then rmi (kTs2 g p) (lst1 ((kTs2 g p).map tUsed) (((kTs2 g p).map tUsed).drop 1) 1 0) else kTs2 g p
def keepS (g : Sg) (p : Int) : Sg := if kMay g p = true then ([], -1, gTime g, gReq g, kTs3 g p, gUse g + 1) else ([], -1, gTime g, gReq g, kTs1 g p, gUse g)
def kvC (R : Txt) (vs : List (List Int)) : Nat := (vs.map (fun w => vC w none R)).sum
def kvS (R : Txt) (vs : List (List Int)) : Nat := (vs.map (fun w => vS w none R)).sum
def vyC (T : Txt) : Nat := match vof T nVary with
  | none => 1
  | some v => 1 + (v.length + 3)
def vyS (T : Txt) : Nat := match vof T nVary with
  | none => 0
  | some v => v.length + (2 * v.length + 2)
def keepC (g : Sg) (p : Int) : Nat := 5 + 1 + 1 + vC nCc none (rdX g) + 1 + vC nVary none (rdX g) + vyC (rdX g) + 1 + kvC (gReq g) (kVy (rdX g)) + (1 + vC nEtag none (rdX g)) + 5 * (1 + wC (vof (rdX g) nCc)) + (3 + (vC nExp none (rdX g) + vC nDate none (rdX g) + vC nAge none (rdX g))) + plC (kTh g p) (gTs g) + 2 * (1 + wC (vof (rdX g) nCc)) + (1 + vC nCc none (gReq g)) + (1 + wC (vof (gReq g) nCc))
def keepM (g : Sg) (p : Int) : Nat := 605 + 12 + 16 + vS nCc none (rdX g) + 16 + vS nVary none (rdX g) + vyS (rdX g) + (kVy (rdX g)).length + kvS (gReq g) (kVy (rdX g)) + (16 + vS nEtag none (rdX g)) + 5 * (16 + wS (vof (rdX g) nCc)) + (48 + (vS nExp none (rdX g) + vS nDate none (rdX g) + vS nAge none (rdX g))) + plS (kTh g p) (gTs g) + 2 * (16 + wS (vof (rdX g) nCc)) + (16 + vS nCc none (gReq g)) + (16 + wS (vof (gReq g) nCc))
/-- again -/
def agnI (g : Sg) (p : Int) : Int := lix (isOne (gReq g) p) (gTs g) 0 (-1)
def agnV (t : Th) (v : Option (List Int)) : Option (List Int) := if v = none then tCc t else v
def agnT (g : Sg) (t : Th) : Th := (tPath t, tEtag t, tVary t, tVals t, agnV t (vof (rdX g) nCc), lifeOf (wrd (agnV t (vof (rdX g) nCc)) nSm) (wrd (agnV t (vof (rdX g) nCc)) nMa) (rdX g), ageIn (rdX g), gTime g, tUsed t)
def agnOk (g : Sg) (t : Th) : Bool := decide (etg (rdX g) = none ∨ etg (rdX g) = oet (tEtag t))
def agnA (g : Sg) (p : Int) : Bool := if agnI g p = -1 then false else match (gTs g)[(agnI g p).toNat]? with
  | none => false
  | some t => agnOk g t
def agnS (g : Sg) (p : Int) : Sg := if agnA g p = true then match (gTs g)[(agnI g p).toNat]? with
    | none => ([], -1, gTime g, gReq g, gTs g, gUse g)
    | some t => ([], -1, gTime g, gReq g, rmi (gTs g) (agnI g p).toNat ++ [useT (agnT g t) (gUse g + 1)], gUse g + 1)
  else ([], -1, gTime g, gReq g, gTs g, gUse g)
def agnC (g : Sg) : Nat := 5 + theC (gReq g) (gTs g) + (1 + vC nEtag none (rdX g)) + 1 + vC nCc none (rdX g) + 5 * (1 + wC (vof (rdX g) nCc)) + (3 + (vC nExp none (rdX g) + vC nDate none (rdX g) + vC nAge none (rdX g)))
def agnM (g : Sg) : Nat := 605 + theS (gReq g) (gTs g) + (16 + vS nEtag none (rdX g)) + 16 + vS nCc none (rdX g) + 5 * (16 + wS (vof (rdX g) nCc)) + (48 + (vS nExp none (rdX g) + vS nDate none (rdX g) + vS nAge none (rdX g)))
theorem lifeOf_rg {sm ma : Int} (T : Txt) (h1 : sm < 1000000) (h2 : ma < 1000000) : 0 ≤ lifeOf sm ma T ∧ lifeOf sm ma T < 1000000 := by
  have a1 := nIn_rg T nExp
  have a2 := nIn_rg T nDate
  unfold lifeOf btw
  split
  · omega
  · split
    · omega
    · split <;> omega
theorem ageIn_rg (T : Txt) : 0 ≤ ageIn T ∧ ageIn T < 1000000 := by
  have a1 := nIn_rg T nAge
  unfold ageIn
  split <;> omega
def ccT (t : Th) (v : Option (List Int)) : Th := (tPath t, tEtag t, tVary t, tVals t, v, tLife t, tAge t, tSince t, tUsed t)
theorem ccT_ok {t : Th} (h : ThOk t) {v : Option (List Int)} (hv : ochs v ∧ olen v 40000) : ThOk (ccT t v) := by
  obtain ⟨h1, h2, h3, h4, h5, h6, h7, h8, h9, -, h11, h12⟩ := h
  exact ⟨h1, h2, h3, h4, h5, h6, h7, h8, h9, hv, h11, h12⟩
def tmT (t : Th) (T : Txt) (ti : Int) : Th := (tPath t, tEtag t, tVary t, tVals t, tCc t, lifeOf (wrd (tCc t) nSm) (wrd (tCc t) nMa) T, ageIn T, ti, tUsed t)
theorem tmT_ok {t : Th} (h : ThOk t) (T : Txt) {ti : Int} (hti : 0 ≤ ti ∧ ti ≤ 1000000000) : ThOk (tmT t T ti) := by
  obtain ⟨h1, h2, h3, h4, h5, h6, -, -, -, h10, h11, h12⟩ := h
  exact ⟨h1, h2, h3, h4, h5, h6, lifeOf_rg T (wrd_rg _ _).2 (wrd_rg _ _).2, ageIn_rg T, hti, h10, h11, h12⟩
theorem agnT_eq (g : Sg) (t : Th) : agnT g t = tmT (ccT t (agnV t (vof (rdX g) nCc))) (rdX g) (gTime g) := rfl
theorem rmi_set {A : Type} (xs : List A) (i : Nat) (y : A) : rmi (xs.set i y) i = rmi xs i := by
  unfold rmi
  rw [List.take_set_of_le (Nat.le_refl _), List.drop_set_of_lt (by omega)]
theorem rmi_nd {as : List Nat} (h : as.Nodup) (i : Nat) : (rmi as i).Nodup := h.sublist (rmi_sub as i)
theorem rmi_not {as : List Nat} (h : as.Nodup) {i a : Nat} (ha : as[i]? = some a) : a ∉ rmi as i := by
  intro hm
  unfold rmi at hm
  obtain ⟨h1, h2⟩ := List.getElem?_eq_some_iff.mp ha
  have hp := List.pairwise_iff_getElem.mp h
  rcases List.mem_append.mp hm with z | z
  · obtain ⟨j, hj, e⟩ := List.mem_take_iff_getElem.mp z
    have : j < i ∧ j < as.length := by omega
    exact hp j i this.2 h1 this.1 (e.trans h2.symm)
  · obtain ⟨j, hj, e⟩ := List.mem_drop_iff_getElem.mp z
    exact hp i (i + 1 + j) h1 (by omega) (by omega) (h2.trans e.symm)
theorem nd_snoc {as : List Nat} (h : as.Nodup) {g : Nat} (hg : g ∉ as) : (as ++ [g]).Nodup := by
  rw [List.nodup_append]
  exact ⟨h, List.nodup_cons.mpr ⟨by simp, List.nodup_nil⟩, fun a ha b hb e => hg (by rw [← List.mem_singleton.mp hb, ← e]; exact ha)⟩
theorem kq_w {H H1 : Heap} {x a : Nat} (hk : ∀ q : Nat, q < H.size → ¬ (H.size ≤ q ∨ q = a) → H1[q]? = H[q]?) : ∀ q : Nat, q < H.size → ¬ (H.size ≤ q ∨ q = x ∨ q = a) → H1[q]? = H[q]? := fun q h1 h2 => hk q h1 (fun z => h2 (z.imp id Or.inr))
theorem PT.k3 {H H1 : Heap} {x tp th g : Nat} {bs : List Nat} (hb : g ∈ bs) (hk : ∀ q : Nat, q < H.size → ¬ (H.size ≤ q ∨ q = x ∨ q = th ∨ q = g) → H1[q]? = H[q]?) : Kp (PT x tp th bs) H (PT x tp th bs) H1 := fun q hq hp => ⟨hp, hk q hq (by rintro (z | z | z | z); exact absurd hq (Nat.not_lt.mpr z); exact hp.1 z; exact hp.2.2.1 z; exact hp.2.2.2 (by rw [z]; exact hb))⟩
theorem etg_of {T : Txt} {y : List Int} (h : etg T = some y) : vof T nEtag = some y ∧ y ≠ [] := by
  unfold etg at h
  split at h
  · cases h
  · cases h
  · rename_i h1
    cases h
    exact ⟨h1, fun z => by cases z⟩
theorem oet_etg (T : Txt) : oet ((etg T).getD []) = etg T := by
  cases h : etg T with
  | none => rfl
  | some y => show oet y = some y; rw [oet, if_neg (etg_of h).2]
theorem kqp {H H1 : Heap} {b : Nat} (hq : ∀ q : Nat, q ≠ b → H1[q]? = H[q]?) : ∀ q : Nat, q < H.size → ¬ (H.size ≤ q ∨ q = b) → H1[q]? = H[q]? := fun q _ z => hq q (fun e => z (Or.inr e))
theorem mem1 {g n : Nat} (h : g < n) : ∀ a ∈ [g], a < n := fun a ha => by rw [List.mem_singleton.mp ha]; exact h
theorem mem2 {g w n : Nat} (h : g < n) (h2 : w < n) : ∀ a ∈ [g, w], a < n := fun a ha => by
  rcases List.mem_cons.mp ha with z | z
  · rw [z]; exact h
  · rw [List.mem_singleton.mp z]; exact h2
theorem RT3.sub {G : zE} {H : Heap} {x tp th rt : Nat} {as bs bs' : List Nat} {tape pad cs : List Int} {lz : Lns} {ts : List Th} (h : RT3 G H x tp th rt as bs tape pad cs lz ts) (hs : ∀ a ∈ bs', a ∈ bs) : RT3 G H x tp th rt as bs' tape pad cs lz ts := ⟨h.1, h.2.1, h.2.2.1.kp (Kp.weak (fun q _ hp => PT.sub hs hp)), h.2.2.2.kp (Kp.weak (fun q _ hp => PT.sub hs hp)) (fun _ _ => rfl)⟩
theorem kVy_ok {T : Txt} (h : ochs (vof T nVary) ∧ olen (vof T nVary) 30100) : (∀ x ∈ kVy T, chs x ∧ x.length ≤ 40000) ∧ (kVy T).length ≤ 40000 := by
  unfold kVy
  split
  · exact ⟨fun x hx => (by cases hx), Nat.zero_le _⟩
  · rename_i v e
    have h1 := h.1 v e
    have h2 := h.2 v e
    have h3 := lst_len (v.map smI)
    rw [List.length_map] at h3
    refine ⟨fun x hx => ⟨lst_chs (chs_map h1) x hx, ?_⟩, by omega⟩
    have h4 := lst_mem_len hx
    rw [List.length_map] at h4
    omega
theorem kvC_drop {R : Txt} {vs : List (List Int)} {j : Nat} {w : List Int} (h : vs[j]? = some w) : kvC R (vs.drop j) = vC w none R + kvC R (vs.drop (j + 1)) := by rw [drop_s h, kvC, List.map_cons, List.sum_cons]; rfl
theorem kvS_drop {R : Txt} {vs : List (List Int)} {j : Nat} {w : List Int} (h : vs[j]? = some w) : kvS R (vs.drop j) = vS w none R + kvS R (vs.drop (j + 1)) := by rw [drop_s h, kvS, List.map_cons, List.sum_cons]; rfl
theorem kVs_take {R : Txt} {vs : List (List Int)} {j : Nat} {w : List Int} (h : vs[j]? = some w) : kVs R (vs.take (j + 1)) = kVs R (vs.take j) ++ [vof R w] := by
  obtain ⟨h1, h2⟩ := List.getElem?_eq_some_iff.mp h
  rw [List.take_succ_eq_append_getElem h1, kVs, List.map_append, h2]; rfl
theorem va_fitA (r : Option Nat) {t : FieldType} : narrow (.array t) (va_rf r) = va_rf r ∧ fits (.array t) (va_rf r) = true := by cases r <;> exact ⟨rfl, rfl⟩
theorem lst1_lt (us : List Nat) : ∀ (ts : List Nat) (i f : Nat), f < i → lst1 us ts i f < i + ts.length
  | [], i, f, h => by rw [lst1]; exact h
  | u :: ts, i, f, h => by
    rw [lst1, List.length_cons]
    have := lst1_lt us ts (i + 1) (if u < us.getD f 0 then i else f) (by split <;> omega)
    omega
theorem kTh_ok {g : Sg} {p0 : Int} (hz : rg p0) (htm : 0 ≤ gTime g ∧ gTime g ≤ 1000000000) (he : ochs (vof (rdX g) nEtag) ∧ olen (vof (rdX g) nEtag) 30100) (hkv : (∀ x ∈ kVy (rdX g), chs x ∧ x.length ≤ 40000) ∧ (kVy (rdX g)).length ≤ 40000) (hvR : ∀ w, ochs (vof (gReq g) w) ∧ olen (vof (gReq g) w) 30100) (hv : ochs (vof (rdX g) nCc) ∧ olen (vof (rdX g) nCc) 40000) : ThOk (kTh g p0) := by
  have h1 : chs ((etg (rdX g)).getD []) ∧ ((etg (rdX g)).getD []).length ≤ 40000 := by
    cases h : etg (rdX g) with
    | none => exact ⟨chs_nil, Nat.zero_le _⟩
    | some y => exact ⟨he.1 y (etg_of h).1, Nat.le_trans (he.2 y (etg_of h).1) (by omega)⟩
  refine ⟨h1.1, h1.2, hkv.1, hkv.2, ?_, ?_, lifeOf_rg _ (wrd_rg _ _).2 (wrd_rg _ _).2, ageIn_rg _, htm, hv, hz, ?_⟩
  · show (kVs (gReq g) (kVy (rdX g))).length = (kVy (rdX g)).length
    unfold kVs; rw [List.length_map]
  · intro v hv
    obtain ⟨w, -, rfl⟩ := List.mem_map.mp hv
    exact ⟨(hvR w).1, fun y hy => Nat.le_trans ((hvR w).2 y hy) (by omega)⟩
  · show 0 < 1000000
    omega
