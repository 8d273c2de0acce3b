/-! ===== a Control in the making ===== -/
theorem QC.kpAB {G : zE} {P : Nat → Prop} {H H1 : Heap} {nl ul ed1 ed2 d1 d2 : Nat} (hk : ∀ q : Nat, q < H.size → ¬ (H.size ≤ q ∨ MU G nl ul ed1 ed2 q) → H1[q]? = H[q]?) (h1 : d1 = ed1 ∨ H.size ≤ d1) (h2 : d2 = ed2 ∨ H.size ≤ d2) : Kp (QC G P nl ul ed1 ed2) H (QC G P nl ul d1 d2) H1 := fun q hq hp => ⟨⟨hp.1, fun z => hp.2 (by
    rcases z with z | z | ⟨zb, z | z⟩
    · exact Or.inl z
    · exact Or.inr (Or.inl z)
    · rcases h1 with e | e
      · exact Or.inr (Or.inr ⟨zb, Or.inl (z.trans e)⟩)
      · omega
    · rcases h2 with e | e
      · exact Or.inr (Or.inr ⟨zb, Or.inr (z.trans e)⟩)
      · omega)⟩, hk q hq (by
    rintro (z | z)
    · omega
    · exact hp.2 z)⟩
theorem CB.ext {G : zE} {P : Nat → Prop} {H H1 : Heap} {c nl ul ed1 ed2 cap1 cap2 : Nat} {m1 m2 : Int} {rs1 rs2 : List Nat} {kv : KV} (h : CB G P H c nl ul ed1 ed2 cap1 cap2 m1 m2 rs1 rs2 kv) (e : Ext H H1) : CB G P H1 c nl ul ed1 ed2 cap1 cap2 m1 m2 rs1 rs2 kv := by
  obtain ⟨h1, h2, h3, h4, h5, h6, h7⟩ := h
  exact ⟨h1.ext e, h2.ext e, h3.ext e, h4.ext e, h5.ext e, h6.kp (Kp.ext e), h7.kp (Kp.ext e)⟩
theorem CB.fin {G : zE} {P P' : Nat → Prop} {H : Heap} {c nl ul ed1 ed2 cap1 cap2 : Nat} {m1 m2 : Int} {rs1 rs2 : List Nat} {kv : KV} (h : CB G P H c nl ul ed1 ed2 cap1 cap2 m1 m2 rs1 rs2 kv) (hP : ∀ q, P q → P' q) (hc : P' c) (hnl : P' nl) (hul : P' ul) (h1 : ed1 = e0 G ∨ P' ed1) (h2 : ed2 = e0 G ∨ P' ed2) (hcap : cap1 ≤ 100000 ∧ cap2 ≤ 100000) (hkl : kv.length ≤ 30000) : Ct G P' H c kv := by
  obtain ⟨g1, g2, g3, g4, g5, g6, g7⟩ := h
  exact ⟨hc, nl, ul, g1, ⟨ed1, rs1, cap1, m1, hnl, g2, g3, h1, ⟨g6.1, hcap.1⟩, fun i r x hr hx => (g6.2 i r x hr hx).kp (Kp.weak (fun q _ z => hP q z.1))⟩, ⟨ed2, rs2, cap2, m2, hul, g4, g5, h2, hcap.2, g7.kp (Kp.weak (fun q _ z => hP q z.1))⟩, hkl⟩
/-- a string, or null -/
def Os (G : zE) (P : Nat → Prop) (H : Heap) (y : Option Nat) (v : Option (List Int)) : Prop := match y, v with
  | none, none => True
  | some a, some xs => St G P H a xs
  | _, _ => False
theorem Os.kp {G : zE} {P P' : Nat → Prop} {H H1 : Heap} {y : Option Nat} {v : Option (List Int)} (h : Os G P H y v) (hk : Kp P H P' H1) : Os G P' H1 y v := by
  cases y <;> cases v <;> simp only [Os] at h ⊢
  exact h.kp hk
theorem Os.ext {G : zE} {P : Nat → Prop} {H H1 : Heap} {y : Option Nat} {v : Option (List Int)} (h : Os G P H y v) (e : Ext H H1) : Os G P H1 y v := h.kp (Kp.ext e)
theorem Os.n {G : zE} {P : Nat → Prop} {H : Heap} {v : Option (List Int)} (h : Os G P H none v) : v = none := by
  cases v with
  | none => rfl
  | some x => exact h.elim
theorem Os.s {G : zE} {P : Nat → Prop} {H : Heap} {a : Nat} {v : Option (List Int)} (h : Os G P H (some a) v) : ∃ xs, v = some xs ∧ St G P H a xs := by
  cases v with
  | none => exact h.elim
  | some x => exact ⟨x, rfl, h⟩
def oL (v : Option (List Int)) : Nat := match v with
  | none => 0
  | some x => x.length
def sL (L : List (List Int)) : Nat := (L.map List.length).sum
theorem sL_drop {L : List (List Int)} {j : Nat} {x : List Int} (h : L[j]? = some x) : sL (L.drop j) = x.length + sL (L.drop (j + 1)) := by rw [drop_s h, sL, List.map_cons, List.sum_cons]; rfl
theorem foldl_take {A B : Type} {f : B → A → B} {L : List A} {b : B} {j : Nat} {x : A} (h : L[j]? = some x) : (L.take (j + 1)).foldl f b = f ((L.take j).foldl f b) x := by
  obtain ⟨h1, h2⟩ := List.getElem?_eq_some_iff.mp h
  rw [List.take_succ_eq_append_getElem h1, List.foldl_append, h2]; rfl
theorem ctf_len : ∀ (L : List (List Int)) (kv : KV), (L.foldl ctA kv).length ≤ kv.length + L.length
  | [], kv => Nat.le_refl _
  | x :: L, kv => by
    have h1 := ctf_len L (ctA kv x)
    have h2 := ctA_len kv x
    rw [List.foldl_cons, List.length_cons]
    omega
