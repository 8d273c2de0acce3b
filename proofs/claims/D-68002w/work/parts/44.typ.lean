/-! ===== typing, told of the model's store ===== -/
def typS (w : Int64) (z : Int) (g : Sg) : Sg := if tyOk w z (gTape g).length = true then (gTape g ++ tyH w z.toNat z.toNat, gFault g, gTime g, gReq g, gTs g, gUse g) else g
theorem RT2.kxp {G : zE} {U : State} {H H1 : Heap} {x tp th rt : Nat} {as : List Nat} {tape pad tape' pad' cs : List Int} {lz : Lns} {ts : List Th} {vs : List Value} (h : RT2 G H x tp th rt as tape pad cs lz ts) (hx : Ob G H x 5 vs) (hK : KK G U) (hk : ∀ q : Nat, q < H.size → ¬ (H.size ≤ q ∨ q = x ∨ q = tp) → H1[q]? = H[q]?) (htp : Ai G H1 tp 101 (tape' ++ pad')) : RT2 G H1 x tp th rt as tape' pad' cs lz ts := by
  obtain ⟨h1, h2, h3, h4⟩ := h
  have kp : Kp (PT x tp th as) H (PT x tp th as) H1 := fun q hq hp => ⟨hp, hk q hq (by rintro (z | z | z); exact absurd hq (Nat.not_lt.mpr z); exact hp.1 z; exact hp.2.1 z)⟩
  have hne : ∀ (q c : Nat), Cl G H q c → (zok c && zok 5 && decide (zname c ≠ zname 5)) = true → (zok c && zok 101 && decide (zname c ≠ zname 101)) = true → H1[q]? = H[q]? := fun q c hc e1 e2 => hk q hc.lt (by rintro (z | z | z); exact absurd hc.lt (Nat.not_lt.mpr z); exact hc.ne hx.cl hK e1 z; exact hc.ne h1.cl hK e2 z)
  exact ⟨htp, h2.kept (hne _ _ h2.cl rfl rfl), h3.kp kp, h4.kp kp (fun a ha => by obtain ⟨vs, hv⟩ := h4.ob a ha; exact hne _ _ hv.cl rfl rfl)⟩
theorem typ_rep {G : zE} {U : State} {H H1 : Heap} {x tp th rt : Nat} {as : List Nat} {pad cs : List Int} {lz : Lns} {g : Sg} {thr : Int} {w : Int64} {z : Int} {r : Value} (hx : Ob G H x 5 (xT tp rt th as.length g thr)) (hR2 : RT2 G H x tp th rt as (gTape g) pad cs lz (gTs g)) (hm : (gTape g).length + pad.length = 300 ∧ tln cs lz = gReq g ∧ as.Nodup ∧ (G.2.heap.size ≤ x ∧ G.2.heap.size ≤ tp ∧ G.2.heap.size ≤ th ∧ ∀ a ∈ as, G.2.heap.size ≤ a)) (hok : SgOk g) (hK : KK G U) (hk : ∀ q : Nat, q < H.size → ¬ (H.size ≤ q ∨ q = x ∨ q = tp) → H1[q]? = H[q]?)
    (hp : (tyOk w z (gTape g).length = true → r = .int (iI 1) ∧ Ob G H1 x 5 [.ref tp, .int (iI (((gTape g).length + z.toNat : Nat) : Int)), .int (iI (gFault g)), .int (iI (gTime g)), .int (iI 0), .long (lN (gUse g)), .ref rt, .ref th, .int (iI (as.length : Int))] ∧ Ai G H1 tp 101 ((gTape g ++ tyH w z.toNat z.toNat) ++ pad.drop z.toNat)) ∧ (tyOk w z (gTape g).length = false → r = .int (iI 0) ∧ Ob G H1 x 5 [.ref tp, .int (iI ((gTape g).length : Int)), .int (iI (gFault g)), .int (iI (gTime g)), .int (iI 0), .long (lN (gUse g)), .ref rt, .ref th, .int (iI (as.length : Int))] ∧ Ai G H1 tp 101 (gTape g ++ pad))) : r = .int (iI (b2i (tyOk w z (gTape g).length))) ∧ RepT G H1 x 0 (typS w z g) := by
  cases e : tyOk w z (gTape g).length with
  | false =>
    obtain ⟨h1, h2, h3⟩ := hp.2 e
    refine ⟨h1, ?_⟩
    rw [typS, e]
    exact ⟨tp, th, rt, as, pad, cs, lz, h2, hR2.kxp hx hK hk h3, hm, hok⟩
  | true =>
    obtain ⟨h1, h2, h3⟩ := hp.1 e
    refine ⟨h1, ?_⟩
    unfold tyOk at e
    rw [Bool.and_eq_true] at e
    obtain ⟨e1, e2⟩ := e
    have e1 := of_decide_eq_true e1
    have hl : (gTape g ++ tyH w z.toNat z.toNat).length = (gTape g).length + z.toNat := by rw [List.length_append, tyH_len]
    have e9 : typS w z g = (gTape g ++ tyH w z.toNat z.toNat, gFault g, gTime g, gReq g, gTs g, gUse g) := by
      rw [typS, if_pos]
      unfold tyOk
      rw [Bool.and_eq_true]
      exact ⟨decide_eq_true e1, e2⟩
    rw [e9]
    refine ⟨tp, th, rt, as, pad.drop z.toNat, cs, lz, ?_, hR2.kxp hx hK hk h3, ⟨?_, hm.2⟩, ⟨?_, ?_, hok.2.2⟩⟩
    · show Ob G H1 x 5 [_, .int (iI ((gTape g ++ tyH w z.toNat z.toNat).length : Int)), _, _, _, _, _, _, _]
      rw [hl]
      exact h2
    · show (gTape g ++ tyH w z.toNat z.toNat).length + (pad.drop z.toNat).length = 300
      rw [hl, List.length_drop]
      have := hm.1
      omega
    · intro c hc
      rcases List.mem_append.mp hc with q | q
      · exact hok.1 c q
      · exact tyH_chs e2 c q
    · show (gTape g ++ tyH w z.toNat z.toNat).length ≤ 300
      rw [hl]
      omega
