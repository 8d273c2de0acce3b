/-! ===== the component's store in the heap ===== -/
def PC (G : zE) (x tp th ed : Nat) (as rs : List Nat) : Nat → Prop := fun q => q ≠ x ∧ q ≠ tp ∧ q ≠ th ∧ (G.2.heap.size ≤ q → q ≠ ed) ∧ q ∉ as ∧ q ∉ rs
abbrev xC (tp th rq wi : Nat) (g : Sg) : List Value := [.ref tp, .ref th, .ref rq, .ref wi, .int (iI ((gTape g).length : Int)), .int (iI (gFault g)), .int (iI (gTime g)), .int (iI (gUse g : Int))]
/-- all but its own object, in a zone P -/
def RC2 (G : zE) (P : Nat → Prop) (H : Heap) (tp th ed cap rq wi : Nat) (mz : Int) (as rs : List Nat) (pad : List Int) (cs : List Bool) (g : Sg) : Prop := Ai G H tp 100 (gTape g ++ pad) ∧ Ob G H th 8 [.int (iI mz), .ref ed, .int (iI (as.length : Int))] ∧ EDok G H ed as cap ∧ HR G P H rq rs (mrg (gReq g)) cs ∧ Ct G P H wi (ctL (vof (gReq g) nCc)) ∧ CTs G P H as (gTs g)
/-- what holds of its cells: lengths, places -/
def RCm (G : zE) (x tp th cap : Nat) (as rs : List Nat) (pad : List Int) (g : Sg) : Prop := ((gTape g).length + pad.length = 300 ∧ chs pad) ∧ cap ≤ 100 ∧ as.Nodup ∧ rs.Nodup ∧ (G.2.heap.size ≤ x ∧ G.2.heap.size ≤ tp ∧ G.2.heap.size ≤ th ∧ (∀ a ∈ as, G.2.heap.size ≤ a) ∧ ∀ r ∈ rs, G.2.heap.size ≤ r)
def RepC (G : zE) (H : Heap) (x : Nat) (cs : List Bool) (g : Sg) : Prop := ∃ (tp th ed cap rq wi : Nat) (mz : Int) (as rs : List Nat) (pad : List Int), Ob G H x 0 (xC tp th rq wi g) ∧ RC2 G (PC G x tp th ed as rs) H tp th ed cap rq wi mz as rs pad cs g ∧ RCm G x tp th cap as rs pad g ∧ SgOk g ∧ tsz (mrg (gReq g)) ≤ 300
/-- the cells that a call of the component may write -/
def AC (G : zE) (H0 : Heap) : Nat → Prop := fun q => H0.size ≤ q ∨ (G.2.heap.size ≤ q ∧ (Cl G H0 q 0 ∨ Cl G H0 q 100 ∨ Cl G H0 q 8 ∨ Cl G H0 q 103 ∨ Cl G H0 q 4 ∨ Cl G H0 q 3))
theorem AC.n {G : zE} {H0 : Heap} {q : Nat} (h : H0.size ≤ q) : AC G H0 q := Or.inl h
theorem AC.x {G : zE} {H0 : Heap} {q : Nat} {vs : List Value} (h : Ob G H0 q 0 vs) (hb : G.2.heap.size ≤ q) : AC G H0 q := Or.inr ⟨hb, Or.inl h.cl⟩
theorem AC.tp {G : zE} {H0 : Heap} {q : Nat} {xs : List Int} (h : Ai G H0 q 100 xs) (hb : G.2.heap.size ≤ q) : AC G H0 q := Or.inr ⟨hb, Or.inr (Or.inl h.cl)⟩
theorem AC.th {G : zE} {H0 : Heap} {q : Nat} {vs : List Value} (h : Ob G H0 q 8 vs) (hb : G.2.heap.size ≤ q) : AC G H0 q := Or.inr ⟨hb, Or.inr (Or.inr (Or.inl h.cl))⟩
theorem AC.ed {G : zE} {H0 : Heap} {q cap : Nat} {as : List Nat} (hz : zOK G) (h : EDok G H0 q as cap) (hb : G.2.heap.size ≤ q) : AC G H0 q := by
  rcases h with h | ⟨-, -, -, h⟩
  · have := e0_lt hz
    rw [h.2.1] at hb
    omega
  · exact Or.inr ⟨hb, Or.inr (Or.inr (Or.inr (Or.inl h.cl)))⟩
theorem AC.a {G : zE} {P : Nat → Prop} {H0 : Heap} {as : List Nat} {ts : List Th} (h : CTs G P H0 as ts) {q : Nat} (hq : q ∈ as) (hb : G.2.heap.size ≤ q) : AC G H0 q := by
  obtain ⟨t, ht⟩ := h.get hq
  exact Or.inr ⟨hb, Or.inr (Or.inr (Or.inr (Or.inr (Or.inl ht.cl))))⟩
theorem AC.r {G : zE} {P : Nat → Prop} {H0 : Heap} {rq : Nat} {rs : List Nat} {T : Txt} {cs : List Bool} (h : HR G P H0 rq rs T cs) {q : Nat} (hq : q ∈ rs) (hb : G.2.heap.size ≤ q) : AC G H0 q := Or.inr ⟨hb, Or.inr (Or.inr (Or.inr (Or.inr (Or.inr (h.rcl q hq)))))⟩
theorem AC.own {G : zE} {H0 : Heap} (hB : Bh G H0) : ∀ q, AC G H0 q → G.2.heap.size ≤ q := fun q h => h.elim (fun z => Nat.le_trans hB.1 z) (fun z => z.1)
theorem RC2.ext {G : zE} {P : Nat → Prop} {H H' : Heap} {tp th ed cap rq wi : Nat} {mz : Int} {as rs : List Nat} {pad : List Int} {cs : List Bool} {g : Sg} (hz : zOK G) (h : RC2 G P H tp th ed cap rq wi mz as rs pad cs g) (e : Ext H H') : RC2 G P H' tp th ed cap rq wi mz as rs pad cs g := ⟨h.1.ext e, h.2.1.ext e, h.2.2.1.ext e, h.2.2.2.1.ext hz e, h.2.2.2.2.1.ext hz e, h.2.2.2.2.2.ext hz e⟩
theorem RepC.ext {G : zE} {H H' : Heap} {x : Nat} {cs : List Bool} {g : Sg} (hz : zOK G) (h : RepC G H x cs g) (e : Ext H H') : RepC G H' x cs g := by
  obtain ⟨tp, th, ed, cap, rq, wi, mz, as, rs, pad, h1, h2, h3⟩ := h
  exact ⟨tp, th, ed, cap, rq, wi, mz, as, rs, pad, h1.ext e, h2.ext hz e, h3⟩
/-- cells of the store's own classes are its own cells: a zone is kept by writes into these alone -/
theorem PC.kp {G : zE} {H H1 : Heap} {x tp th ed : Nat} {as rs : List Nat} (hk : ∀ q : Nat, q < H.size → ¬ (H.size ≤ q ∨ q = x ∨ q = tp ∨ q = th ∨ (G.2.heap.size ≤ q ∧ q = ed) ∨ q ∈ as ∨ q ∈ rs) → H1[q]? = H[q]?) : Kp (PC G x tp th ed as rs) H (PC G x tp th ed as rs) H1 := fun q hq hp => ⟨hp, hk q hq (by
  rintro (z | z | z | z | z | z | z)
  · exact absurd hq (Nat.not_lt.mpr z)
  · exact hp.1 z
  · exact hp.2.1 z
  · exact hp.2.2.1 z
  · exact hp.2.2.2.1 z.1 z.2
  · exact hp.2.2.2.2.1 z
  · exact hp.2.2.2.2.2 z)⟩
/-! cells of strings are of none of the classes that are written -/
theorem zId0 {G : zE} {U : State} (hK : KK G U) {c : Nat} (hc : zok c = true) : G.2.vm.findClass (zname c) = some (G.1.1 c) := by
  have h := zId hK hc
  rw [hK.2.alike.findClass] at h
  exact h
theorem Cl.o {G : zE} {U : State} {H : Heap} {a c : Nat} {C : String} (hK : KK G U) (h : va_O C a noA G.2 H) (hc : (zok c && decide (zname c ≠ C)) = true) : ¬ Cl G H a c := by
  intro ⟨c2, g1, g2⟩
  obtain ⟨cell, h1, h3, h4, -⟩ := h
  rw [g1] at h1
  cases h1
  simp only [Bool.and_eq_true, decide_eq_true_eq] at hc
  exact zcls_ne (G := G) (zId0 hK hc.1) h4 hc.2 g2.symm
theorem Sb.ncl {G : zE} {U : State} {H : Heap} {a : Nat} {xs : List Int} (hK : KK G U) (h : Sb G H a xs) : ¬ (Cl G H a 5 ∨ Cl G H a 101 ∨ Cl G H a 104 ∨ Cl G H a 7 ∨ Cl G H a 102) := by
  obtain ⟨cell, h1, ⟨-, k, hk, comp, hkind⟩, -⟩ := h
  have ob : ∀ (ci : Nat) (q : vw_C), zcl[ci]? = some q → Cl G H a ci → False := by
    intro ci q hq ⟨c2, g1, g2⟩
    rw [g1] at h1
    cases h1
    obtain ⟨-, hfc, kC, hkC, hkind2⟩ := hK.1.2.1 ci q hq
    rw [g2, hkC] at hk
    cases hk
    rw [hkind2] at hkind
    cases hkind
  have ar : ∀ (ci t0 : Nat) (ty : FieldType), (zty G.1)[t0]? = some (G.1.1 ci, ty) → ty ≠ .byte → Cl G H a ci → False := by
    intro ci t0 ty hq hne ⟨c2, g1, g2⟩
    rw [g1] at h1
    cases h1
    obtain ⟨-, k2, hk2, comp2, hkind2⟩ := (hK.1.2.2 t0 _ hq).1 0 (fun _ => .null)
    have hk2 : G.2.vm.classes[G.1.1 ci]? = some k2 := hk2
    rw [g2, hk2] at hk
    cases hk
    rw [hkind2] at hkind
    cases hkind
    exact hne rfl
  rintro (z | z | z | z | z)
  · exact ob 5 _ rfl z
  · exact ar 101 1 .int rfl (by decide) z
  · exact ar 104 4 (.object "VaryStoreModel$Thing") rfl (by decide) z
  · exact ob 7 _ rfl z
  · exact ar 102 2 .long rfl (by decide) z
/-- the cells that the model may write, and rows of longs -/
abbrev BM (G : zE) (H : Heap) (q : Nat) : Prop := Cl G H q 5 ∨ Cl G H q 101 ∨ Cl G H q 104 ∨ Cl G H q 7 ∨ Cl G H q 102
theorem BM.cl {G : zE} {U : State} {H : Heap} {q c : Nat} (hK : KK G U) (h : Cl G H q c) (hc : (zok c && zok 5 && decide (zname c ≠ zname 5) && (zok c && zok 101 && decide (zname c ≠ zname 101)) && (zok c && zok 104 && decide (zname c ≠ zname 104)) && (zok c && zok 7 && decide (zname c ≠ zname 7)) && (zok c && zok 102 && decide (zname c ≠ zname 102))) = true) : ¬ BM G H q := by
  simp only [Bool.and_eq_true] at hc
  have key : ∀ d : Nat, (zok c && zok d && decide (zname c ≠ zname d)) = true → ¬ Cl G H q d := fun d hd z => h.ne z hK hd rfl
  rintro (z | z | z | z | z)
  · exact key 5 (by simp only [Bool.and_eq_true]; exact hc.1.1.1.1) z
  · exact key 101 (by simp only [Bool.and_eq_true]; exact hc.1.1.1.2) z
  · exact key 104 (by simp only [Bool.and_eq_true]; exact hc.1.1.2) z
  · exact key 7 (by simp only [Bool.and_eq_true]; exact hc.1.2) z
  · exact key 102 (by simp only [Bool.and_eq_true]; exact hc.2) z
theorem BM.o {G : zE} {U : State} {H : Heap} {a : Nat} {C : String} (hK : KK G U) (h : va_O C a noA G.2 H) (hc : (decide (C ≠ zname 5) && decide (C ≠ zname 101) && decide (C ≠ zname 104) && decide (C ≠ zname 7) && decide (C ≠ zname 102)) = true) : ¬ BM G H a := by
  simp only [Bool.and_eq_true, decide_eq_true_eq] at hc
  rintro (z | z | z | z | z)
  · exact Cl.o hK h (by simp only [Bool.and_eq_true, decide_eq_true_eq]; exact ⟨rfl, hc.1.1.1.1.symm⟩) z
  · exact Cl.o hK h (by simp only [Bool.and_eq_true, decide_eq_true_eq]; exact ⟨rfl, hc.1.1.1.2.symm⟩) z
  · exact Cl.o hK h (by simp only [Bool.and_eq_true, decide_eq_true_eq]; exact ⟨rfl, hc.1.1.2.symm⟩) z
  · exact Cl.o hK h (by simp only [Bool.and_eq_true, decide_eq_true_eq]; exact ⟨rfl, hc.1.2.symm⟩) z
  · exact Cl.o hK h (by simp only [Bool.and_eq_true, decide_eq_true_eq]; exact ⟨rfl, hc.2.symm⟩) z
section KC
variable {G : zE} {U : State} {P : Nat → Prop} {H H1 : Heap}
theorem Ob.kc {a c : Nat} {vs : List Value} (hK : KK G U) (h : Ob G H a c vs) (hk : ∀ q : Nat, q < H.size → ¬ BM G H q → H1[q]? = H[q]?) (hc : (zok c && zok 5 && decide (zname c ≠ zname 5) && (zok c && zok 101 && decide (zname c ≠ zname 101)) && (zok c && zok 104 && decide (zname c ≠ zname 104)) && (zok c && zok 7 && decide (zname c ≠ zname 7)) && (zok c && zok 102 && decide (zname c ≠ zname 102))) = true) : Ob G H1 a c vs := h.kept (hk a h.lt (BM.cl hK h.cl hc))
theorem St.kc {a : Nat} {xs : List Int} (hK : KK G U) (h : St G P H a xs) (hk : ∀ q : Nat, q < H.size → ¬ BM G H q → H1[q]? = H[q]?) : St G P H1 a xs := by
  obtain ⟨h1, h2, h3, b, h4, h5, h6⟩ := h
  exact ⟨h1, h2, h3, b, h4, h5.kept (hk a h5.lt (BM.o hK h5.1 (by decide))), h6.kept (hk b h6.lt (h6.ncl hK))⟩
theorem EDok.kc {ed cap : Nat} {rs : List Nat} (hK : KK G U) (h : EDok G H ed rs cap) (hk : ∀ q : Nat, q < H.size → ¬ BM G H q → H1[q]? = H[q]?) : EDok G H1 ed rs cap := by
  rcases h with h | ⟨h1, h2, h3, h4⟩
  · exact Or.inl h
  · exact Or.inr ⟨h1, h2, h3, h4.kept (hk ed h4.lt (BM.cl hK h4.cl rfl))⟩
theorem LSt.kc {a : Nat} {xs : List (List Int)} (hK : KK G U) (h : LSt G P H a xs) (hk : ∀ q : Nat, q < H.size → ¬ BM G H q → H1[q]? = H[q]?) : LSt G P H1 a xs := by
  obtain ⟨ed, rs, cap, mz, h1, h2, h3, h4, h5, h6⟩ := h
  exact ⟨ed, rs, cap, mz, h1, h2.kc hK hk rfl, h3.kc hK hk, h4, h5, fun i r x hr hx => (h6 i r x hr hx).kc hK hk⟩
theorem Nu.kc {a : Nat} {v : Int} (hK : KK G U) (h : Nu G P H a v) (hk : ∀ q : Nat, q < H.size → ¬ BM G H q → H1[q]? = H[q]?) : Nu G P H1 a v := by
  have hl := h.lt
  obtain ⟨hp, ho, ⟨cf, k, i, f, c2, h2, h3, h4, g2⟩⟩ := h
  have e := hk a hl (BM.o hK ho (by decide))
  obtain ⟨c1, h1, g1⟩ := ho
  exact ⟨hp, ⟨c1, by rw [e]; exact h1, g1⟩, ⟨cf, k, i, f, c2, h2, h3, by rw [e]; exact h4, g2⟩⟩
theorem US.kc {a : Nat} {vs : List Int} (hK : KK G U) (h : US G P H a vs) (hk : ∀ q : Nat, q < H.size → ¬ BM G H q → H1[q]? = H[q]?) : US G P H1 a vs := by
  obtain ⟨ed, rs, cap, mz, h1, h2, h3, h4, h5, h6⟩ := h
  exact ⟨ed, rs, cap, mz, h1, h2.kc hK hk rfl, h3.kc hK hk, h4, h5, h6.1, fun i r x hr hx => (h6.2 i r x hr hx).kc hK hk⟩
theorem Ct.kc {c : Nat} {kv : KV} (hK : KK G U) (h : Ct G P H c kv) (hk : ∀ q : Nat, q < H.size → ¬ BM G H q → H1[q]? = H[q]?) : Ct G P H1 c kv := by
  obtain ⟨h0, nl, ul, h1, h2, h3, h4⟩ := h
  exact ⟨h0, nl, ul, h1.kc hK hk rfl, h2.kc hK hk, h3.kc hK hk, h4⟩
theorem HR.kc {rq : Nat} {rs : List Nat} {T : Txt} {cs : List Bool} (hK : KK G U) (h : HR G P H rq rs T cs) (hk : ∀ q : Nat, q < H.size → ¬ BM G H q → H1[q]? = H[q]?) : HR G P H1 rq rs T cs := by
  obtain ⟨L, ed, cap, mz, h1, h2, h3, h4, h5, h6, h7, h8⟩ := h
  refine ⟨L, ed, cap, mz, h1, h2, h3, h4.kc hK hk rfl, h5.kc hK hk rfl, h6.kc hK hk, h7, h8.1, h8.2.1, fun i r t cb g1 g2 g3 => ?_⟩
  obtain ⟨nm, vl, li, k1, k2, k3, k4, k5⟩ := h8.2.2 i r t cb g1 g2 g3
  refine ⟨nm, vl, li, k1.kc hK hk rfl, k2.kc hK hk, k3.kc hK hk, ?_, k5⟩
  cases li with
  | none => exact trivial
  | some z => exact St.kc (xs := lsd t.2) hK k4 hk
theorem CTs.kc {as : List Nat} {ts : List Th} (hK : KK G U) (h : CTs G P H as ts) (hk : ∀ q : Nat, q < H.size → ¬ BM G H q → H1[q]? = H[q]?) : CTs G P H1 as ts := ⟨h.1, fun i a t ha ht => by
  obtain ⟨h0, e, v, w, co, h1, h2, h3, h4, h5⟩ := h.2 i a t ha ht
  exact ⟨h0, e, v, w, co, h1.kc hK hk rfl, h2.kc hK hk, h3.kc hK hk, h4.kc hK hk, h5.kc hK hk⟩⟩
/-- the component's store stays over a call of the model -/
theorem RepC.kc {x : Nat} {cs : List Bool} {g : Sg} (hK : KK G U) (h : RepC G H x cs g) (hk : ∀ q : Nat, q < H.size → ¬ BM G H q → H1[q]? = H[q]?) : RepC G H1 x cs g := by
  obtain ⟨tp, th, ed, cap, rq, wi, mz, as, rs, pad, h1, ⟨g1, g2, g3, g4, g5, g6⟩, h3⟩ := h
  exact ⟨tp, th, ed, cap, rq, wi, mz, as, rs, pad, h1.kc hK hk rfl, ⟨g1.kept (hk tp g1.lt (BM.cl hK g1.cl rfl)), g2.kc hK hk rfl, g3.kc hK hk, g4.kc hK hk, g5.kc hK hk, g6.kc hK hk⟩, h3⟩
theorem RepC.overT {x : Nat} {cs : List Bool} {g : Sg} (hK : KK G U) (h : RepC G H x cs g) (hk : ∀ q : Nat, q < H.size → ¬ AT G H q → H1[q]? = H[q]?) : RepC G H1 x cs g := h.kc hK (fun q h1 h2 => hk q h1 (fun z => z.elim (fun z => absurd h1 (Nat.not_lt.mpr z)) (fun z => h2 (by rcases z.2 with w | w | w | w; exact Or.inl w; exact Or.inr (Or.inl w); exact Or.inr (Or.inr (Or.inl w)); exact Or.inr (Or.inr (Or.inr (Or.inl w)))))))
/-- the model's store stays over a call of the component -/
theorem RepT.overC {x : Nat} {thr : Int} {g : Sg} (hK : KK G U) (h : RepT G H x thr g) (hk : ∀ q : Nat, q < H.size → ¬ AC G H q → H1[q]? = H[q]?) : RepT G H1 x thr g := h.keptc (fun q c h1 h2 h3 => hk q h1 (fun z => by
  rcases z with z | ⟨-, z⟩
  · exact absurd h1 (Nat.not_lt.mpr z)
  · rcases h3 with e | e | e | e | e | e <;> subst e <;> rcases z with z | z | z | z | z | z <;> exact absurd rfl (h2.ne z hK rfl)))
end KC
theorem PC.sub {G : zE} {x tp th ed : Nat} {as bs rs : List Nat} (hs : ∀ a ∈ bs, a ∈ as) : ∀ q, PC G x tp th ed as rs q → PC G x tp th ed bs rs q := fun q h => ⟨h.1, h.2.1, h.2.2.1, h.2.2.2.1, fun z => h.2.2.2.2.1 (hs q z), h.2.2.2.2.2⟩
theorem CTs.weak {G : zE} {P P' : Nat → Prop} {H : Heap} {as : List Nat} {ts : List Th} (hz : zOK G) (h : CTs G P H as ts) (hw : ∀ q, P q → P' q) : CTs G P' H as ts := h.kp hz (Kp.weak (fun q _ z => hw q z)) (fun _ _ => rfl)
theorem Ct.weak {G : zE} {P P' : Nat → Prop} {H : Heap} {c : Nat} {kv : KV} (hz : zOK G) (h : Ct G P H c kv) (hw : ∀ q, P q → P' q) : Ct G P' H c kv := h.kp hz (Kp.weak (fun q _ z => hw q z))
/-- over a call of a list's method on th -/
theorem PC.kl {G : zE} {H H1 : Heap} {x tp th ed : Nat} {as rs : List Nat} (hk : ∀ q : Nat, q < H.size → ¬ (H.size ≤ q ∨ q = th ∨ (G.2.heap.size ≤ q ∧ q = ed)) → H1[q]? = H[q]?) : Kp (PC G x tp th ed as rs) H (PC G x tp th ed as rs) H1 := fun q hq hp => ⟨hp, hk q hq (by
  rintro (z | z | z)
  · exact absurd hq (Nat.not_lt.mpr z)
  · exact hp.2.2.1 z
  · exact hp.2.2.2.1 z.1 z.2)⟩
theorem rmi_take {A : Type} (ts us : List A) (J : Nat) (h : J < ts.length) : rmi (ts.take (J + 1) ++ us) J = ts.take J ++ us := by
  rw [rmi, List.take_append_of_le_length (by rw [List.length_take]; omega), List.take_take, Nat.min_eq_left (by omega), List.drop_append, List.length_take, Nat.min_eq_left (by omega), List.drop_eq_nil_of_le (by rw [List.length_take]; omega), Nat.sub_self, List.drop_zero, List.nil_append]
/-- over writes into its own object, and new cells -/
theorem RC2.kx {G : zE} {U : State} {H H1 : Heap} {x tp th ed cap rq wi : Nat} {mz : Int} {as rs : List Nat} {pad : List Int} {cs : List Bool} {g : Sg} {vs : List Value} (hK : KK G U) (h : RC2 G (PC G x tp th ed as rs) H tp th ed cap rq wi mz as rs pad cs g) (hx : Ob G H x 0 vs) (hxb : G.2.heap.size ≤ x) (hk : ∀ q : Nat, q < H.size → ¬ (H.size ≤ q ∨ q = x) → H1[q]? = H[q]?) : RC2 G (PC G x tp th ed as rs) H1 tp th ed cap rq wi mz as rs pad cs g := by
  obtain ⟨g1, g2, g3, g4, g5, g6⟩ := h
  have kp := PC.kp (G := G) (x := x) (tp := tp) (th := th) (ed := ed) (as := as) (rs := rs) (H := H) (H1 := H1) (fun q h1 h2 => hk q h1 (fun z => h2 (z.imp id Or.inl)))
  have key : ∀ (q c : Nat), Cl G H q c → (zok c && zok 0 && decide (zname c ≠ zname 0)) = true → H1[q]? = H[q]? := fun q c hc e1 => hk q hc.lt (by rintro (z | z); exact absurd hc.lt (Nat.not_lt.mpr z); exact hc.ne hx.cl hK e1 z)
  exact ⟨g1.kept (key tp 100 g1.cl rfl), g2.kept (key th 8 g2.cl rfl), g3.kept (fun hl hb => hk ed hl (by rintro (z | z); exact absurd hl (Nat.not_lt.mpr z); exact g3.ne hK hx.cl hxb rfl z)), g4.kp hK.1 kp (fun r hr => key r 3 (g4.rcl r hr) rfl), g5.kp hK.1 kp, g6.kp hK.1 kp (fun a ha => by obtain ⟨t, ht⟩ := g6.get ha; exact key a 4 ht.cl rfl)⟩
theorem CTs.upd {G : zE} {P : Nat → Prop} {H H1 : Heap} {as : List Nat} {ts : List Th} {i a : Nat} {t : Th} (hz : zOK G) (h : CTs G P H as ts) (ha : as[i]? = some a) (hnd : as.Nodup) (hk : Kp P H P H1) (hg : ∀ b ∈ as, b ≠ a → H1[b]? = H[b]?) (ht : CTh G P H1 a t) : CTs G P H1 as (ts.set i t) := by
  refine ⟨by rw [List.length_set]; exact h.1, fun j b u hb hu => ?_⟩
  by_cases e : j = i
  · subst e
    rw [ha] at hb
    cases hb
    rw [List.getElem?_set_self (by rw [← h.1]; exact (List.getElem?_eq_some_iff.mp ha).1)] at hu
    cases hu
    exact ht
  · rw [List.getElem?_set_ne (Ne.symm e)] at hu
    exact (h.2 j b u hb hu).kp hz hk (hg b (List.mem_of_getElem? hb) (nodup_ne hnd ha hb e))
/-- the store behind a read that failed, or before more is done -/
theorem RepC.rd {G : zE} {U : State} {H0 H1 : Heap} {x tp th ed cap rq wi : Nat} {mz : Int} {as rs : List Nat} {pad : List Int} {cs : List Bool} {g : Sg} (hK : KK G U) (hx0 : Ob G H0 x 0 (xC tp th rq wi g)) (hR2 : RC2 G (PC G x tp th ed as rs) H0 tp th ed cap rq wi mz as rs pad cs g) (hm : RCm G x tp th cap as rs pad g) (hok : SgOk g) (htz : tsz (mrg (gReq g)) ≤ 300) (hk : ∀ q : Nat, q < H0.size → ¬ (H0.size ≤ q ∨ q = x) → H1[q]? = H0[q]?) (hx1 : Ob G H1 x 0 [.ref tp, .ref th, .ref rq, .ref wi, .int (iI 0), .int (iI (rdT (gTape g)).1), .int (iI (gTime g)), .int (iI (gUse g : Int))]) : RepC G H1 x cs (rdS g) := by
  obtain ⟨m1, m2, m3, m4, m5⟩ := hm
  obtain ⟨g1, g2⟩ := hR2.kx hK hx0 m5.1 hk
  refine ⟨tp, th, ed, cap, rq, wi, mz, as, rs, gTape g ++ pad, hx1, ⟨g1, g2⟩, ⟨⟨?_, ?_⟩, m2, m3, m4, m5⟩, rdS_ok hok, htz⟩
  · show 0 + (gTape g ++ pad).length = 300
    rw [List.length_append, Nat.zero_add]; exact m1.1
  · intro c hc
    rcases List.mem_append.mp hc with z | z
    · exact hok.1 c z
    · exact m1.2 c z
theorem HR.och {G : zE} {P : Nat → Prop} {H : Heap} {rq : Nat} {rs : List Nat} {T : Txt} {cs : List Bool} (h : HR G P H rq rs T cs) (nm : List Int) : ochs (hdV T nm) ∧ olen (hdV T nm) (tsz T) := by
  refine ⟨?_, fun y hy => by have := hdV_tsz T nm; rw [hy] at this; exact this⟩
  obtain ⟨L, ed, cap, mz, -, -, -, -, -, -, -, h8⟩ := h
  intro y hy
  rcases hdF_or T nm with ⟨h1, h2⟩ | ⟨k, t, h1, h2, -⟩
  · rw [hdV_no h2] at hy; cases hy
  · rw [hdV_k h1 h2] at hy
    cases hy
    have hk := (List.getElem?_eq_some_iff.mp h2).1
    obtain ⟨u, cb, hu, -, n1, vl, li, -, -, hv, -⟩ := h8.at (i := k) (List.getElem?_eq_getElem (by rw [h8.1]; exact hk))
    rw [h2] at hu
    cases hu
    exact hv.2.1
