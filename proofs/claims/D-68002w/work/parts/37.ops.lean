/-! ===== changes of the model's row of things ===== -/
theorem rmi_sub {A : Type} (xs : List A) (i : Nat) : (rmi xs i).Sublist xs := by
  have h : (xs.take i ++ xs.drop (i + 1)).Sublist (xs.take i ++ xs.drop i) := List.Sublist.append (List.Sublist.refl _) (by
    rw [← List.drop_drop]
    exact List.drop_sublist _ _)
  rw [List.take_append_drop] at h
  exact h
theorem PT.sub {x tp th : Nat} {as as' : List Nat} (h : ∀ a ∈ as', a ∈ as) {q : Nat} (hq : PT x tp th as q) : PT x tp th as' q := ⟨hq.1, hq.2.1, hq.2.2.1, fun z => hq.2.2.2 (h q z)⟩
/-- a thing taken out of the row -/
theorem RT2.rm {G : zE} {U : State} {H H1 : Heap} {x tp th rt i : Nat} {as : List Nat} {tape pad cs : List Int} {lz : Lns} {ts : List Th} {vs : List Value} (h : RT2 G H x tp th rt as tape pad cs lz ts) (hx : Ob G H x 5 vs) (hK : KK G U) (hk : ∀ q : Nat, q < H.size → ¬ (H.size ≤ q ∨ q = x ∨ q = th) → H1[q]? = H[q]?) (hth : Aq G H1 th 104 ((rmi as i).map some ++ List.replicate (25 - (rmi as i).length) none)) : RT2 G H1 x tp th rt (rmi as i) tape pad cs lz (rmi ts i) := by
  obtain ⟨h1, h2, h3, h4⟩ := h
  have kp : Kp (PT x tp th as) H (PT x tp th (rmi as i)) H1 := fun q hq hp => ⟨PT.sub (fun a ha => rmi_mem ha) hp, hk q hq (by rintro (z | z | z); exact absurd hq (Nat.not_lt.mpr z); exact hp.1 z; exact hp.2.2.1 z)⟩
  have hg : ∀ a ∈ as, H1[a]? = H[a]? := fun a ha => by
    obtain ⟨vs, hv⟩ := h4.ob a ha
    exact hk a hv.lt (by rintro (z | z | z); exact absurd hv.lt (Nat.not_lt.mpr z); exact hv.cl.ne hx.cl hK rfl z; exact hv.cl.ne h2.cl hK rfl z)
  exact ⟨h1.kept (hk tp h1.lt (by rintro (z | z | z); exact absurd h1.lt (Nat.not_lt.mpr z); exact h1.cl.ne hx.cl hK rfl z; exact h1.cl.ne h2.cl hK rfl z)), hth, h3.kp kp, (h4.kp kp hg).rm i⟩
theorem MTs.set {G : zE} {P : Nat → Prop} {H : Heap} {as : List Nat} {ts : List Th} {i a : Nat} {t : Th} (hl : as.length = ts.length) (ha : as[i]? = some a) (h : ∀ (j b : Nat) (u : Th), j ≠ i → as[j]? = some b → ts[j]? = some u → MTh G P H b u) (h2 : MTh G P H a t) : MTs G P H as (ts.set i t) := by
  refine ⟨by rw [List.length_set]; exact hl, fun j b u hb hu => ?_⟩
  by_cases e : j = i
  · subst e
    rw [ha] at hb
    cases hb
    rw [List.getElem?_set_self (by rw [← hl]; exact (List.getElem?_eq_some_iff.mp ha).1)] at hu
    cases hu
    exact h2
  · rw [List.getElem?_set_ne (Ne.symm e)] at hu
    exact h j b u e hb hu
theorem nodup_ne {as : List Nat} (h : as.Nodup) {i j a b : Nat} (ha : as[i]? = some a) (hb : as[j]? = some b) (hij : j ≠ i) : b ≠ a := by
  intro e
  subst e
  obtain ⟨h1, h2⟩ := List.getElem?_eq_some_iff.mp ha
  obtain ⟨h3, h4⟩ := List.getElem?_eq_some_iff.mp hb
  have hp := List.pairwise_iff_getElem.mp h
  rcases Nat.lt_or_gt_of_ne hij with q | q
  · exact hp j i h3 h1 q (h4.trans h2.symm)
  · exact hp i j h1 h3 q (h2.trans h4.symm)
/-- a thing of the row told anew -/
theorem RT2.upd {G : zE} {U : State} {H H1 : Heap} {x tp th rt i a : Nat} {as : List Nat} {tape pad cs : List Int} {lz : Lns} {ts : List Th} {vs : List Value} {t : Th} (h : RT2 G H x tp th rt as tape pad cs lz ts) (ha : as[i]? = some a) (hnd : as.Nodup) (hx : Ob G H x 5 vs) (hK : KK G U) (hk : ∀ q : Nat, q < H.size → ¬ (H.size ≤ q ∨ q = x ∨ q = a) → H1[q]? = H[q]?) (ht : MTh G (PT x tp th as) H1 a t) : RT2 G H1 x tp th rt as tape pad cs lz (ts.set i t) := by
  obtain ⟨h1, h2, h3, h4⟩ := h
  have ham : a ∈ as := List.mem_of_getElem? ha
  obtain ⟨va, hva⟩ := h4.ob a ham
  have kp : Kp (PT x tp th as) H (PT x tp th as) H1 := fun q hq hp => ⟨hp, hk q hq (by rintro (z | z | z); exact absurd hq (Nat.not_lt.mpr z); exact hp.1 z; exact hp.2.2.2 (by rw [z]; exact ham))⟩
  have hg : ∀ (j b : Nat), j ≠ i → as[j]? = some b → H1[b]? = H[b]? := fun j b hji hb => by
    obtain ⟨vs, hv⟩ := h4.ob b (List.mem_of_getElem? hb)
    exact hk b hv.lt (by rintro (z | z | z); exact absurd hv.lt (Nat.not_lt.mpr z); exact hv.cl.ne hx.cl hK rfl z; exact nodup_ne hnd ha hb hji z)
  exact ⟨h1.kept (hk tp h1.lt (by rintro (z | z | z); exact absurd h1.lt (Nat.not_lt.mpr z); exact h1.cl.ne hx.cl hK rfl z; exact h1.cl.ne hva.cl hK rfl z)), h2.kept (hk th h2.lt (by rintro (z | z | z); exact absurd h2.lt (Nat.not_lt.mpr z); exact h2.cl.ne hx.cl hK rfl z; exact h2.cl.ne hva.cl hK rfl z)), h3.kp kp, MTs.set h4.1 ha (fun j b u hji hb hu => (h4.2 j b u hb hu).kp kp (hg j b hji hb)) ht⟩
/-- the latest request changed -/
theorem RT2.req {G : zE} {H : Heap} {x tp th rt rt' : Nat} {as : List Nat} {tape pad cs cs' : List Int} {lz lz' : Lns} {ts : List Th} (h : RT2 G H x tp th rt as tape pad cs lz ts) (h' : Tx G (PT x tp th as) H rt' cs' lz') : RT2 G H x tp th rt' as tape pad cs' lz' ts := ⟨h.1, h.2.1, h', h.2.2.2⟩
theorem RT2.tape {G : zE} {H : Heap} {x tp th rt : Nat} {as : List Nat} {tape pad tape' pad' cs : List Int} {lz : Lns} {ts : List Th} (h : RT2 G H x tp th rt as tape pad cs lz ts) (e : tape ++ pad = tape' ++ pad') : RT2 G H x tp th rt as tape' pad' cs lz ts := ⟨by rw [← e]; exact h.1, h.2⟩
def rdS (g : Sg) : Sg := ([], (rdT (gTape g)).1, gTime g, gReq g, gTs g, gUse g)
def rdOk (g : Sg) (p : Int) : Bool := decide ((rdT (gTape g)).1 = -1 ∧ 0 ≤ p ∧ p < 16)
def rdX (g : Sg) : Txt := tln (gTape g) (rdT (gTape g)).2
def useT (t : Th) (u : Nat) : Th := (tPath t, tEtag t, tVary t, tVals t, tCc t, tLife t, tAge t, tSince t, u)
theorem useT_ok {t : Th} (h : ThOk t) {u : Nat} (hu : u < 1000000) : ThOk (useT t u) := by
  obtain ⟨h1, h2, h3, h4, h5, h6, h7, h8, h9, h10, h11, -⟩ := h
  exact ⟨h1, h2, h3, h4, h5, h6, h7, h8, h9, h10, h11, hu⟩
theorem prs_rg (cs : List Int) (hn : cs.length ≤ 300) : ∀ (d a : Nat) (acc : Lns), -1 ≤ (prs cs d a acc).1 ∧ (prs cs d a acc).1 ≤ 300
  | 0, a, acc => by rw [prs]; show -1 ≤ (-1 : Int) ∧ (-1 : Int) ≤ 300; decide
  | d + 1, a, acc => by
    rw [prs]
    split
    · show -1 ≤ (-1 : Int) ∧ (-1 : Int) ≤ 300; decide
    · split
      · exact prs_rg cs hn d _ _
      · show -1 ≤ (a : Int) ∧ (a : Int) ≤ 300
        omega
theorem rdS_ok {g : Sg} (h : SgOk g) : SgOk (rdS g) := ⟨chs_nil, by show 0 ≤ 300; omega, prs_rg _ h.2.1 _ _ _, h.2.2.2⟩
/-- asking: the answer, the store behind it -/
def askG (g : Sg) (p : Int) : Int := if lix (isOne (rdX g) p) (gTs g) 0 (-1) = -1 then 0 else match (gTs g)[(lix (isOne (rdX g) p) (gTs g) 0 (-1)).toNat]? with
  | none => 0
  | some t => ans (vof (rdX g) nCc) t (gTime g)
def askA (g : Sg) (p : Int) : Int := if askG g p = 1 ∨ askG g p = 2 then askG g p else if hasW (vof (rdX g) nCc) nOic = true then 4 else askG g p
def askS (g : Sg) (p : Int) : Sg := if askG g p = 1 ∨ askG g p = 2 then
    match (gTs g)[(lix (isOne (rdX g) p) (gTs g) 0 (-1)).toNat]? with
    | none => ([], -1, gTime g, rdX g, gTs g, gUse g)
    | some t => ([], -1, gTime g, rdX g, (gTs g).set (lix (isOne (rdX g) p) (gTs g) 0 (-1)).toNat (useT t (gUse g + 1)), gUse g + 1)
  else ([], -1, gTime g, rdX g, gTs g, gUse g)
theorem lN_s (n : Nat) : lN n + 1 = lN (n + 1) := lN_1 n
theorem RT2.kl {G : zE} {U : State} {H H' : Heap} {x tp th rt : Nat} {as : List Nat} {tape pad cs : List Int} {lz : Lns} {ts : List Th} {vs : List Value} (h : RT2 G H x tp th rt as tape pad cs lz ts) (hx : Ob G H x 5 vs) (hK : KK G U) (hq : ∀ q : Nat, q < H.size → ¬ (H.size ≤ q ∨ q = x) → H'[q]? = H[q]?) : RT2 G H' x tp th rt as tape pad cs lz ts := by
  obtain ⟨h1, h2, h3, h4⟩ := h
  have key : ∀ (q c : Nat), Cl G H q c → (zok c && zok 5 && decide (zname c ≠ zname 5)) = true → H'[q]? = H[q]? := fun q c hc hz => hq q hc.lt (by rintro (z | z); exact absurd hc.lt (Nat.not_lt.mpr z); exact hc.ne hx.cl hK hz z)
  have hk : Kp (PT x tp th as) H (PT x tp th as) H' := fun q h9 hp => ⟨hp, hq q h9 (by rintro (z | z); exact absurd h9 (Nat.not_lt.mpr z); exact hp.1 z)⟩
  exact ⟨h1.kept (key _ _ h1.cl rfl), h2.kept (key _ _ h2.cl rfl), h3.kp hk, h4.kp hk (fun a ha => by obtain ⟨vs, hv⟩ := h4.ob a ha; exact key _ _ hv.cl rfl)⟩
theorem kpa {H H1 : Heap} {x tp th a : Nat} {as : List Nat} (ha : a ∈ as) (hk : ∀ q : Nat, q < H.size → ¬ (H.size ≤ q ∨ q = x ∨ q = a) → H1[q]? = H[q]?) : Kp (PT x tp th as) H (PT x tp th as) H1 := fun q hq hp => ⟨hp, hk q hq (by rintro (z | z | z); exact absurd hq (Nat.not_lt.mpr z); exact hp.1 z; exact hp.2.2.2 (by rw [z]; exact ha))⟩
/-- cells made since a heap are none of the store's -/
theorem PT.new {G : zE} {H H0 : Heap} {x tp th rt : Nat} {as : List Nat} {tape pad cs : List Int} {lz : Lns} {ts : List Th} {vs : List Value} (h : RT2 G H0 x tp th rt as tape pad cs lz ts) (hx : Ob G H0 x 5 vs) : ∀ q : Nat, q < H.size → Pur H0 q → PT x tp th as q := by
  intro q _ hq
  have hq : H0.size ≤ q := hq
  have h1 := h.1.lt
  have h2 := h.2.1.lt
  have h3 := hx.lt
  refine ⟨by omega, by omega, by omega, fun z => ?_⟩
  obtain ⟨vs, hv⟩ := h.2.2.2.ob q z
  have := hv.lt
  omega
def askC (g : Sg) : Nat := 6 + vC nCc none (rdX g) + theC (rdX g) (gTs g) + 5 * (1 + wC (vof (rdX g) nCc))
def askM (g : Sg) : Nat := 621 + vS nCc none (rdX g) + theS (rdX g) (gTs g) + 5 * (16 + wS (vof (rdX g) nCc))
