/-! ===== what the model's calls cost at most, out of what was typed: pure ===== -/
theorem prs_nsz (cs : List Int) : ∀ (d a : Nat) (acc : Lns), nsz (tln cs acc) ≤ a → a ≤ cs.length → nsz (tln cs (prs cs d a acc).2) ≤ cs.length
  | 0, a, acc, h, ha => by rw [prs]; exact Nat.le_trans h ha
  | d + 1, a, acc, h, ha => by
    rw [prs]
    split
    · exact Nat.le_trans h ha
    · rename_i hl
      split
      · rename_i hk
        obtain ⟨h1, h2, h3, h4⟩ := okl_n hk (by omega)
        have h5 : (nmOf cs (a, lnK cs a, lnE cs a)).length ≤ lnK cs a - a := by unfold nmOf; rw [List.length_map]; exact sl_len_le _ _ _
        refine prs_nsz cs d (lnE cs a + 1) (acc ++ [(a, lnK cs a, lnE cs a)]) ?_ (by omega)
        rw [tln_snoc, nsz_snoc]
        show nsz (tln cs acc) + ((nmOf cs (a, lnK cs a, lnE cs a)).length + (vlOf cs (a, lnK cs a, lnE cs a)).length + 2) ≤ lnE cs a + 1
        omega
      · exact Nat.le_trans h ha
theorem rdX_nsz (g : Sg) : nsz (rdX g) ≤ (gTape g).length := prs_nsz _ _ 0 [] (Nat.le_refl 0) (Nat.zero_le _)
theorem fold_tsz : ∀ T M : Txt, tsz (T.foldl (fun M l => addL M l.1 l.2) M) = tsz M + tsz T
  | [], M => rfl
  | l :: T, M => by
    have e : tsz (l :: T) = (l.2.length + 1) + tsz T := by unfold tsz; rw [List.map_cons, List.sum_cons]
    rw [List.foldl_cons, fold_tsz T, addL_tsz, e]; omega
theorem tsz_nsz : ∀ T : Txt, tsz T ≤ nsz T
  | [] => Nat.le_refl _
  | l :: T => by
    have e : tsz (l :: T) = (l.2.length + 1) + tsz T := by unfold tsz; rw [List.map_cons, List.sum_cons]
    have := tsz_nsz T
    rw [nsz_cons, e]; omega
theorem mrg_tsz (T : Txt) : tsz (mrg T) ≤ nsz T := by
  have h := fold_tsz T []
  have h2 := tsz_nsz T
  unfold mrg
  rw [h]
  show 0 + tsz T ≤ _
  omega
/-- the flags of a request's lists, at the most -/
theorem uC_req (cs : List Bool) (T : Txt) : uC cs (mrg T) ≤ 20 * nsz T ∧ uS cs (mrg T) ≤ 300 * nsz T := by
  have h1 := uC_le cs (mrg T)
  have h2 := fC_tsz (mrg T)
  have h3 := mrg_tsz T
  omega
theorem kVy_ne {T : Txt} : ∀ v ∈ kVy T, v ≠ [] := fun v hv => by
  rw [kVy_eq] at hv
  exact lst_ne hv
theorem kVy_len (T : Txt) : kVy T = [] ∨ (2 * (kVy T).length + 5 ≤ szN nVary T ∧ ∃ v, vof T nVary = some v) := by
  cases h : vof T nVary with
  | none => left; rw [kVy, h]
  | some v =>
    right
    have h1 := vof_len h
    have h2 := lst_len (v.map smI)
    rw [List.length_map] at h2
    have e : kVy T = lst (v.map smI) := by rw [kVy, h]
    rw [e]
    have h3 : nVary.length = 4 := rfl
    exact ⟨by omega, v, rfl⟩
/-- what holds of the store, of its sizes: A characters of requests, K of kept texts, c of all texts read -/
def RI (S : Nat) (g : Sg) (A K c : Nat) : Prop := (∀ t ∈ gTs g, ThR A t) ∧ (vsz (gTs g) = 0 ∨ 2 * vsz (gTs g) + 12 ≤ K) ∧ nsz (gReq g) ≤ A ∧ A + K ≤ c ∧ c + (gTape g).length ≤ S
theorem cM_le {V A K S : Nat} (hV : V = 0 ∨ 2 * V + 12 ≤ K) (h : A + K ≤ S) : V * (2 * A + 1) + 2 * A + 70 ≤ cM S := by
  have h1 : (S - 12 - A) * (2 * A + 1) / 2 + 2 * A ≤ mxF (fC1 S) S := le_mxF (fC1 S) (by omega)
  have h2 : V * (2 * A + 1) ≤ (S - 12 - A) * (2 * A + 1) / 2 := by
    rw [Nat.le_div_iff_mul_le (by decide)]
    rcases hV with rfl | hV
    · rw [Nat.zero_mul, Nat.zero_mul]; exact Nat.zero_le _
    · have h3 := Nat.mul_le_mul_right (2 * A + 1) (show 2 * V ≤ S - 12 - A by omega)
      have h4 : V * (2 * A + 1) * 2 = 2 * V * (2 * A + 1) := by grind
      omega
  unfold cM
  omega
theorem sM_le {V A K T X : Nat} (hT : T ≤ 64) (hV : V = 0 ∨ 2 * V + 12 ≤ K) (h : A + K ≤ 8 * T) (hX : 10 * X ≤ (V + 1) * (A * A + 31 * A)) : X ≤ sM (8 * T) := by
  rcases hV with rfl | hV
  · have h1 := (chk_T hT).2.2.1
    have h2 : A * A ≤ 8 * T * (8 * T) := Nat.mul_le_mul (by omega) (by omega)
    have h3 : X ≤ (8 * T * (8 * T) + 31 * (8 * T)) / 10 := by
      rw [Nat.le_div_iff_mul_le (by decide)]
      omega
    omega
  · have h1 : (8 * T - 10 - A) * (A * A + 31 * A) / 20 ≤ mxF (fS1 (8 * T)) (8 * T) := le_mxF (fS1 (8 * T)) (by omega)
    have h2 : X ≤ (8 * T - 10 - A) * (A * A + 31 * A) / 20 := by
      rw [Nat.le_div_iff_mul_le (by decide)]
      have h3 := Nat.mul_le_mul_right (A * A + 31 * A) (show 2 * (V + 1) ≤ 8 * T - 10 - A by omega)
      have h4 : 2 * (V + 1) * (A * A + 31 * A) = 2 * ((V + 1) * (A * A + 31 * A)) := by rw [Nat.mul_assoc]
      omega
    unfold sM
    omega
theorem wC_le {nm : List Int} (hn : nm ≠ []) {T : Txt} {A : Nat} (hT : nsz T ≤ A) : wC (vof T nm) ≤ 2 * A ∧ wS (vof T nm) ≤ 3 * A ∧ vC nm none T + wC (vof T nm) ≤ 2 * A + 4 := by
  have h1 := vC_lin hn hT
  cases h : vof T nm with
  | none => exact ⟨Nat.zero_le _, Nat.zero_le _, by show vC nm none T + 0 ≤ _; omega⟩
  | some u =>
    have h2 := vof_c hn hT h
    have h3 := vofC hn hT h
    refine ⟨?_, ?_, ?_⟩
    · show 2 * u.length + 4 ≤ _; omega
    · show 3 * u.length + 3 ≤ _; omega
    · show vC nm none T + (2 * u.length + 4) ≤ _; omega
/-- linear costs of one name in a text of at most 300 characters -/
theorem v_lin {nm : List Int} (hn : nm ≠ []) {T : Txt} {n : Nat} (hT : nsz T ≤ n) (h3 : n ≤ 300) : vC nm none T ≤ n ∧ vS nm none T ≤ 30 * n := by
  have h1 := vC_lin hn hT
  have h2 : n * n ≤ 300 * n := Nat.mul_le_mul_right n h3
  omega
theorem nCc_ne : nCc ≠ [] := by decide
theorem nEtag_ne : nEtag ≠ [] := by decide
theorem nVary_ne : nVary ≠ [] := by decide
theorem nExp_ne : nExp ≠ [] := by decide
theorem nDate_ne : nDate ≠ [] := by decide
theorem nAge_ne : nAge ≠ [] := by decide
section COST
variable {T A K c : Nat} {g : Sg}
theorem ask_cost (hT : T ≤ 64) (h : RI (8 * T) g A K c) (h3 : (gTape g).length ≤ 300) : askC g ≤ cM (8 * T) + 11 * (gTape g).length + 31 ∧ askM g ≤ sM (8 * T) + 45 * (gTape g).length + 716 ∧ (gTs g = [] → askC g ≤ 11 * (gTape g).length + 31 ∧ askM g ≤ 45 * (gTape g).length + 716) := by
  obtain ⟨h1, h2, h4, h5, h6⟩ := h
  have hn := rdX_nsz g
  obtain ⟨a1, a2⟩ := v_lin nCc_ne hn h3
  obtain ⟨b1, b2, -⟩ := wC_le nCc_ne hn
  obtain ⟨e1, e2⟩ := theC_le (T := rdX g) (A := A + (gTape g).length) (by omega) (gTs g) (fun t ht => (h1 t ht).mono (by omega))
  have f1 := cM_le (A := A + (gTape g).length) (S := 8 * T) h2 (by omega)
  have f2 := sM_le (A := A + (gTape g).length) (X := theS (rdX g) (gTs g)) hT h2 (by omega) (by rw [Nat.add_mul]; omega)
  unfold askC askM
  refine ⟨by omega, by omega, fun e => ?_⟩
  have z1 : theC (rdX g) (gTs g) = 0 := by rw [e]; rfl
  have z2 : theS (rdX g) (gTs g) = 0 := by rw [e]; rfl
  rw [z1, z2]
  omega
theorem agn_cost (hT : T ≤ 64) (h : RI (8 * T) g A K c) (h3 : (gTape g).length ≤ 300) : agnC g ≤ cM (8 * T) + 15 * (gTape g).length + 35 ∧ agnM g ≤ sM (8 * T) + 165 * (gTape g).length + 780 ∧ (gTs g = [] → agnC g ≤ 15 * (gTape g).length + 35 ∧ agnM g ≤ 165 * (gTape g).length + 780) := by
  obtain ⟨h1, h2, h4, h5, h6⟩ := h
  have hn := rdX_nsz g
  obtain ⟨a1, a2⟩ := v_lin nCc_ne hn h3
  obtain ⟨a3, a4⟩ := v_lin nEtag_ne hn h3
  obtain ⟨a5, a6⟩ := v_lin nExp_ne hn h3
  obtain ⟨a7, a8⟩ := v_lin nDate_ne hn h3
  obtain ⟨a9, a10⟩ := v_lin nAge_ne hn h3
  obtain ⟨b1, b2, -⟩ := wC_le nCc_ne hn
  obtain ⟨e1, e2⟩ := theC_le (T := gReq g) h4 (gTs g) h1
  have f1 := cM_le (A := A) (S := 8 * T) h2 (by omega)
  have f2 := sM_le (A := A) (X := theS (gReq g) (gTs g)) hT h2 (by omega) (by rw [Nat.add_mul]; omega)
  unfold agnC agnM
  refine ⟨by omega, by omega, fun e => ?_⟩
  have z1 : theC (gReq g) (gTs g) = 0 := by rw [e]; rfl
  have z2 : theS (gReq g) (gTs g) = 0 := by rw [e]; rfl
  rw [z1, z2]
  omega
theorem kTh_R (hR : nsz (gReq g) ≤ A) (p : Int) : ThR A (kTh g p) := by
  refine ⟨fun v hv => kVy_ne v hv, fun w hw x hx => ?_, ?_⟩
  · obtain ⟨v, hv, e⟩ := List.mem_map.mp hw
    exact vof_c (kVy_ne v hv) hR (e.trans hx)
  · show (kVs (gReq g) (kVy (rdX g))).length = (kVy (rdX g)).length
    exact List.length_map _
/-- keep's dear part -/
theorem keep_dear (hT : T ≤ 64) (h : RI (8 * T) g A K c) (p : Int) : plC (kTh g p) (gTs g) + kvC (gReq g) (kVy (rdX g)) + 2 * A ≤ cM (8 * T) ∧ plS (kTh g p) (gTs g) + kvS (gReq g) (kVy (rdX g)) + (vS nCc none (gReq g) + wS (vof (gReq g) nCc)) ≤ sM (8 * T) := by
  obtain ⟨h1, h2, h4, h5, h6⟩ := h
  have hn := rdX_nsz g
  obtain ⟨e1, e2⟩ := pl_le (kTh_R h4 p).2.1 (gTs g) h1
  obtain ⟨e3, e4⟩ := kv_le h4 (kVy (rdX g)) kVy_ne
  obtain ⟨-, b2, -⟩ := wC_le nCc_ne h4
  have b3 := (vC_lin nCc_ne h4).2
  obtain ⟨q1, q2, -⟩ := chk_T hT
  have hV : (kVy (rdX g)).length = 0 ∨ 2 * (kVy (rdX g)).length + 5 ≤ (gTape g).length := by
    rcases kVy_len (rdX g) with z | ⟨z, -⟩
    · left; rw [z]; rfl
    · right; have := szN_le nVary (rdX g); omega
  generalize (kVy (rdX g)).length = W at *
  generalize vsz (gTs g) = V at *
  generalize plC (kTh g p) (gTs g) = x1 at *
  generalize plS (kTh g p) (gTs g) = x2 at *
  generalize kvC (gReq g) (kVy (rdX g)) = x3 at *
  generalize kvS (gReq g) (kVy (rdX g)) = x4 at *
  generalize vS nCc none (gReq g) = x5 at *
  generalize wS (vof (gReq g) nCc) = x6 at *
  generalize (gTape g).length = n at *
  clear hn h1 h4
  rcases h2 with rfl | h2
  · rw [Nat.zero_mul] at e1 e2
    have l1 : (8 * T - 5 - A) * A / 3 + 2 * A ≤ mxF (fC2 (8 * T)) (8 * T) := le_mxF (fC2 (8 * T)) (by omega)
    have l2 : ((8 * T - 3 - A) * (A * A) + 60 * A) / 20 ≤ mxF (fS2 (8 * T)) (8 * T) := le_mxF (fS2 (8 * T)) (by omega)
    have m1 : x3 ≤ (8 * T - 5 - A) * A / 3 := by
      rw [Nat.le_div_iff_mul_le (by decide)]
      rcases hV with rfl | hV
      · rw [Nat.zero_mul] at e3; omega
      · have := Nat.mul_le_mul_right A (show 2 * W ≤ 8 * T - 5 - A by omega)
        have e5 : W * (2 * A) = 2 * W * A := by grind
        omega
    have m2 : x4 + (x5 + x6) ≤ sM (8 * T) := by
      rcases hV with rfl | hV
      · rw [Nat.zero_mul] at e4
        exact sM_le (V := 0) (A := A) (K := 0) hT (Or.inl rfl) (by omega) (by omega)
      · have := Nat.mul_le_mul_right (A * A) (show 2 * W + 2 ≤ 8 * T - 3 - A by omega)
        have e5 : (2 * W + 2) * (A * A) = 2 * (W * (A * A)) + 2 * (A * A) := by grind
        have e7 : x4 + (x5 + x6) ≤ ((8 * T - 3 - A) * (A * A) + 60 * A) / 20 := by
          rw [Nat.le_div_iff_mul_le (by decide)]
          omega
        omega
    omega
  · have f1 := cM_le (V := V + W) (A := A) (K := K + n) (S := 8 * T) (Or.inr (by omega)) (by omega)
    have f2 := sM_le (V := V + W) (A := A) (K := K + n) (X := x2 + x4 + (x5 + x6)) hT (Or.inr (by omega)) (by omega) (by
      have e5 : (V + W + 1) * (A * A + 31 * A) = V * (A * A + 31 * A) + (W * (A * A) + 31 * (W * A)) + (A * A + 31 * A) := by grind
      omega)
    have e6 : (V + W) * (2 * A + 1) = V * (2 * A + 1) + (W * (2 * A) + W) := by grind
    omega
theorem keep_cost (hT : T ≤ 64) (h : RI (8 * T) g A K c) (h3 : (gTape g).length ≤ 300) (p : Int) : keepC g p ≤ cM (8 * T) + 21 * (gTape g).length + 60 ∧ keepM g p ≤ sM (8 * T) + 210 * (gTape g).length + 900 ∧ (gTs g = [] → gReq g = [] → keepC g p ≤ 21 * (gTape g).length + 60 ∧ keepM g p ≤ 210 * (gTape g).length + 900) := by
  have hd := keep_dear hT h p
  obtain ⟨h1, h2, h4, h5, h6⟩ := h
  have hn := rdX_nsz g
  obtain ⟨a1, a2⟩ := v_lin nCc_ne hn h3
  obtain ⟨a3, a4⟩ := v_lin nEtag_ne hn h3
  obtain ⟨a5, a6⟩ := v_lin nExp_ne hn h3
  obtain ⟨a7, a8⟩ := v_lin nDate_ne hn h3
  obtain ⟨a9, a10⟩ := v_lin nAge_ne hn h3
  obtain ⟨a11, a12⟩ := v_lin nVary_ne hn h3
  obtain ⟨b1, b2, -⟩ := wC_le nCc_ne hn
  obtain ⟨-, -, b3⟩ := wC_le nCc_ne h4
  have hv : vyC (rdX g) ≤ (gTape g).length + 4 ∧ vyS (rdX g) ≤ 3 * (gTape g).length + 2 := by
    cases h : vof (rdX g) nVary with
    | none =>
      have e1 : vyC (rdX g) = 1 := by rw [vyC, h]
      have e2 : vyS (rdX g) = 0 := by rw [vyS, h]
      omega
    | some v =>
      have e1 : vyC (rdX g) = 1 + (v.length + 3) := by rw [vyC, h]
      have e2 : vyS (rdX g) = v.length + (2 * v.length + 2) := by rw [vyS, h]
      have := vof_c nVary_ne hn h
      omega
  have hk : (kVy (rdX g)).length ≤ (gTape g).length := by
    rcases kVy_len (rdX g) with z | ⟨z, -⟩
    · rw [z]; exact Nat.zero_le _
    · have := szN_le nVary (rdX g); omega
  unfold keepC keepM
  refine ⟨by omega, by omega, fun e e2 => ?_⟩
  have z1 : plC (kTh g p) (gTs g) = 0 := by rw [e]; rfl
  have z2 : plS (kTh g p) (gTs g) = 0 := by rw [e]; rfl
  have z3 : kvC (gReq g) (kVy (rdX g)) = 0 := by
    have := (kv_le (R := gReq g) (A := 0) (by rw [e2]; exact Nat.le_refl 0) (kVy (rdX g)) kVy_ne).1
    simp only [Nat.mul_zero] at this
    omega
  have z4 : kvS (gReq g) (kVy (rdX g)) = 0 := by
    have := (kv_le (R := gReq g) (A := 0) (by rw [e2]; exact Nat.le_refl 0) (kVy (rdX g)) kVy_ne).2
    simp only [Nat.mul_zero] at this
    omega
  have z5 : vC nCc none (gReq g) = 0 := by rw [e2]; rfl
  have z6 : vS nCc none (gReq g) = 0 := by rw [e2]; rfl
  have z7 : vof (gReq g) nCc = none := by rw [e2]; rfl
  rw [z1, z2, z3, z4, z5, z6, z7]
  have w1 : wC none = 0 := rfl
  have w2 : wS none = 0 := rfl
  rw [w1, w2]
  omega
end COST
