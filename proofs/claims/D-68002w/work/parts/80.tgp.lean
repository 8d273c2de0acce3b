/-! ===== things of the component ===== -/
theorem St.old {G : zE} {H : Heap} {a : Nat} {xs : List Int} (h : St G (Old G) G.2.heap a xs) (hB : Bh G H) : St G (Old G) H a xs := h.kp (fun q hq hp => ⟨hp, hB.2 q hq⟩)
def lifeX (sm ma fr to : Int) : Int := if 0 ≤ sm then sm else if 0 ≤ ma then ma else if fr = -1 ∨ to = -1 then 0 else if fr < to then to - fr else 0
def ageX (a : Int) : Int := if 0 ≤ a then a else 0
theorem secO_rg (v : Option (List Int)) : -1 ≤ secO v ∧ secO v < 1000000 := by
  cases v with
  | none => exact ⟨by show (-1 : Int) ≤ -1; omega, by show (-1 : Int) < 1000000; omega⟩
  | some x => exact numOf_rg x
theorem ctG_rg {kv : KV} (h : ∀ t ∈ kv, t.2 ≠ -1 ∧ -2 ≤ t.2 ∧ t.2 < 1000000) (nm : List Int) : -2 ≤ ctG kv nm ∧ ctG kv nm < 1000000 := by
  rw [ctG]
  rcases ctF_or kv nm with ⟨h1, -⟩ | ⟨k, t, h1, h2, -⟩
  · rw [if_pos h1]; omega
  · rw [if_neg (by omega), h1, Int.toNat_natCast, List.getD_eq_getElem?_getD, h2]
    exact ⟨(h t (List.mem_of_getElem? h2)).2.1, (h t (List.mem_of_getElem? h2)).2.2⟩
/-- the lines of a text, for reading -/
def HR (G : zE) (P : Nat → Prop) (H : Heap) (rq : Nat) (rs : List Nat) (T : Txt) (cs : List Bool) : Prop := ∃ (L ed cap : Nat) (mz : Int), P rq ∧ P L ∧ (ed = e0 G ∨ P ed) ∧ Ob G H rq 1 [.ref L] ∧ Ob G H L 8 [.int (iI mz), .ref ed, .int (iI (rs.length : Int))] ∧ EDok G H ed rs cap ∧ cap ≤ 100000 ∧ LnB G P H rs T cs
theorem HR.kp {G : zE} {P P' : Nat → Prop} {H H' : Heap} {rq : Nat} {rs : List Nat} {T : Txt} {cs : List Bool} (hz : zOK G) (h : HR G P H rq rs T cs) (hk : Kp P H P' H') (e : ∀ r ∈ rs, H'[r]? = H[r]?) : HR G P' H' rq rs T cs := by
  obtain ⟨L, ed, cap, mz, h1, h2, h3, h4, h5, h6, h7, h8⟩ := h
  have h9 := h6.kp hz h3 hk
  exact ⟨L, ed, cap, mz, (hk rq h4.lt h1).1, (hk L h5.lt h2).1, h9.2, h4.kp h1 hk, h5.kp h2 hk, h9.1, h7, h8.kp hk e⟩
theorem HR.ext {G : zE} {P : Nat → Prop} {H H' : Heap} {rq : Nat} {rs : List Nat} {T : Txt} {cs : List Bool} (hz : zOK G) (h : HR G P H rq rs T cs) (e : Ext H H') : HR G P H' rq rs T cs := h.kp hz (Kp.ext e) (fun r hr => by
  obtain ⟨L, ed, cap, mz, -, -, -, -, -, -, -, h8⟩ := h
  obtain ⟨t, cb, ht⟩ := h8.get hr
  exact e.2 r ht.lt)
def frX (kv : KV) (life age since ti : Int) : Bool := decide (ctF kv nNc = -1) && decide (age + ti - since < life)
def stX (kv : KV) : Bool := decide (ctF kv nNc ≠ -1) || decide (ctF kv nMr ≠ -1) || decide (ctF kv nPr ≠ -1) || decide (ctF kv nSm ≠ -1)
