/-! ===== typing, told of the component's store ===== -/
theorem typ_repC {G : zE} {U : State} {H H1 : Heap} {x tp th ed cap rq wi : Nat} {mz : Int} {as rs : List Nat} {pad : List Int} {cs : List Bool} {g : Sg} {w : Int64} {z : Int} {r : Value} (hx : Ob G H x 0 (xC tp th rq wi g)) (hR2 : RC2 G (PC G x tp th ed as rs) H tp th ed cap rq wi mz as rs pad cs g) (hm : RCm G x tp th cap as rs pad g) (hok : SgOk g) (htz : tsz (mrg (gReq g)) ≤ 300) (hK : KK G U) (hk : ∀ q : Nat, q < H.size → ¬ (H.size ≤ q ∨ q = x ∨ q = tp) → H1[q]? = H[q]?)
    (hp : (tyOk w z (gTape g).length = true → r = .int (iI 1) ∧ Ob G H1 x 0 [.ref tp, .ref th, .ref rq, .ref wi, .int (iI (((gTape g).length + z.toNat : Nat) : Int)), .int (iI (gFault g)), .int (iI (gTime g)), .int (iI (gUse g : Int))] ∧ Ai G H1 tp 100 ((gTape g ++ tyH w z.toNat z.toNat) ++ pad.drop z.toNat)) ∧ (tyOk w z (gTape g).length = false → r = .int (iI 0) ∧ Ob G H1 x 0 (xC tp th rq wi g) ∧ Ai G H1 tp 100 (gTape g ++ pad))) : r = .int (iI (b2i (tyOk w z (gTape g).length))) ∧ RepC G H1 x cs (typS w z g) := by
  obtain ⟨g1, g2, g3, g4, g5, g6⟩ := hR2
  obtain ⟨m1, m2, m3, m4, m5, m6, m7, m8, m9⟩ := hm
  have kp := PC.kp (G := G) (x := x) (tp := tp) (th := th) (ed := ed) (as := as) (rs := rs) (H := H) (H1 := H1) (fun q h1 h2 => hk q h1 (fun z => h2 (by rcases z with z | z | z; exact Or.inl z; exact Or.inr (Or.inl z); exact Or.inr (Or.inr (Or.inl z)))))
  have key : ∀ (q c : Nat), Cl G H q c → (zok c && zok 0 && decide (zname c ≠ zname 0)) = true → (zok c && zok 100 && decide (zname c ≠ zname 100)) = true → H1[q]? = H[q]? := fun q c hc e1 e2 => hk q hc.lt (by rintro (z | z | z); exact absurd hc.lt (Nat.not_lt.mpr z); exact hc.ne hx.cl hK e1 z; exact hc.ne g1.cl hK e2 z)
  have hth := g2.kept (key th 8 g2.cl rfl rfl)
  have hed := g3.kept (fun hl hb => hk ed hl (by
    rintro (z | z | z)
    · exact absurd hl (Nat.not_lt.mpr z)
    · exact g3.ne hK hx.cl m5 rfl z
    · exact g3.ne hK g1.cl m6 rfl z))
  have hHR := g4.kp hK.1 kp (fun r hr => key r 3 (g4.rcl r hr) rfl rfl)
  have hCt := g5.kp hK.1 kp
  have hC := g6.kp hK.1 kp (fun a ha => by obtain ⟨t, ht⟩ := g6.get ha; exact key a 4 ht.cl rfl rfl)
  cases e : tyOk w z (gTape g).length with
  | false =>
    obtain ⟨h1, h2, h3⟩ := hp.2 e
    refine ⟨h1, ?_⟩
    rw [typS, e]
    exact ⟨tp, th, ed, cap, rq, wi, mz, as, rs, pad, h2, ⟨h3, hth, hed, hHR, hCt, hC⟩, ⟨m1, m2, m3, m4, m5, m6, m7, m8, m9⟩, hok, htz⟩
  | true =>
    obtain ⟨h1, h2, h3⟩ := hp.1 e
    refine ⟨h1, ?_⟩
    have e9 : typS w z g = (gTape g ++ tyH w z.toNat z.toNat, gFault g, gTime g, gReq g, gTs g, gUse g) := by rw [typS, if_pos e]
    unfold tyOk at e
    rw [Bool.and_eq_true] at e
    obtain ⟨e1, e2⟩ := e
    have e1 := of_decide_eq_true e1
    have hl : (gTape g ++ tyH w z.toNat z.toNat).length = (gTape g).length + z.toNat := by rw [List.length_append, tyH_len]
    rw [e9]
    refine ⟨tp, th, ed, cap, rq, wi, mz, as, rs, pad.drop z.toNat, ?_, ⟨h3, hth, hed, hHR, hCt, hC⟩, ⟨⟨?_, fun c hc => m1.2 c (List.mem_of_mem_drop hc)⟩, m2, m3, m4, m5, m6, m7, m8, m9⟩, ⟨?_, ?_, hok.2.2⟩, htz⟩
    · show Ob G H1 x 0 [_, _, _, _, .int (iI ((gTape g ++ tyH w z.toNat z.toNat).length : Int)), _, _, _]
      rw [hl]
      exact h2
    · show (gTape g ++ tyH w z.toNat z.toNat).length + (pad.drop z.toNat).length = 300
      rw [hl, List.length_drop]
      have := m1.1
      omega
    · intro c hc
      rcases List.mem_append.mp hc with q | q
      · exact hok.1 c q
      · exact tyH_chs e2 c q
    · show (gTape g ++ tyH w z.toNat z.toNat).length ≤ 300
      omega
