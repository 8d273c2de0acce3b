/-! ===== the law's count of what was spent: pure ===== -/
theorem and15 (y : Int32) : 0 ≤ (y &&& 15).toInt ∧ (y &&& 15).toInt ≤ 15 := by
  have h : (y &&& 15).toBitVec.toNat ≤ 15 := by
    rw [Int32.toBitVec_and, BitVec.toNat_and]
    exact Nat.and_le_right
  have e : (y &&& 15).toInt = ((y &&& 15).toBitVec.toNat : Int) := by
    show (y &&& 15).toBitVec.toInt = _
    rw [BitVec.toInt_eq_toNat_of_lt (by omega)]
  rw [e]
  omega
def cntP (q : Nat → Bool) : Nat → Nat
  | 0 => 0
  | j + 1 => cntP q j + (if q j = true then 1 else 0)
theorem cntP_le (q : Nat → Bool) : ∀ {i j : Nat}, i ≤ j → cntP q i ≤ cntP q j
  | i, 0, h => by rw [Nat.le_zero.mp h]; exact Nat.le_refl _
  | i, j + 1, h => by
    rcases Nat.lt_or_ge j i with g | g
    · rw [show i = j + 1 by omega]; exact Nat.le_refl _
    · exact Nat.le_trans (cntP_le q g) (Nat.le_add_right _ _)
theorem cntP_sum (q r : Nat → Bool) (hqr : ∀ i, q i = true → r i = true → False) : ∀ j : Nat, cntP q j + cntP r j ≤ j
  | 0 => Nat.le_refl _
  | j + 1 => by
    have := cntP_sum q r hqr j
    rw [cntP, cntP]
    by_cases h1 : q j = true
    · rw [if_pos h1, if_neg (fun z => hqr j h1 z)]; omega
    · rw [if_neg h1]; split <;> omega
/-- the typing calls, the dear calls ahead of a place -/
def cT (kd : Nat → Int) : Nat → Nat := cntP (fun i => decide (kd i = 0))
def cZ (kd : Nat → Int) : Nat → Nat := cntP (fun i => decide (1 ≤ kd i ∧ kd i ≤ 3))
theorem cTZ (kd : Nat → Int) (j : Nat) : cT kd j + cZ kd j ≤ j := cntP_sum _ _ (fun i h1 h2 => by
  have h1 := of_decide_eq_true h1
  have h2 := of_decide_eq_true h2
  omega) j
theorem cT_s {kd : Nat → Int} {j : Nat} : cT kd (j + 1) = cT kd j + (if kd j = 0 then 1 else 0) := by
  show cntP _ j + _ = cntP _ j + _
  by_cases h : kd j = 0
  · rw [if_pos (decide_eq_true h), if_pos h]
  · rw [if_neg (fun z => h (of_decide_eq_true z)), if_neg h]
theorem cZ_s {kd : Nat → Int} {j : Nat} : cZ kd (j + 1) = cZ kd j + (if 1 ≤ kd j ∧ kd j ≤ 3 then 1 else 0) := by
  show cntP _ j + _ = cntP _ j + _
  by_cases h : 1 ≤ kd j ∧ kd j ≤ 3
  · rw [if_pos (decide_eq_true h), if_pos h]
  · rw [if_neg (fun z => h (of_decide_eq_true z)), if_neg h]
/-- cells and slots that may be spent ahead of a place: S characters may be typed in all, z dear calls and c characters read so far -/
def bC (S z c j : Nat) : Nat := 100 + (z - 1) * cM S + 75 * c + 280 * z + 2 * j
def bS (S z c j : Nat) : Nat := 2000 + (z - 1) * sM S + 1450 * c + 3000 * z + 12 * j
theorem bC_le {T z c j : Nat} (hT : z + T ≤ 64) (hc : c ≤ 8 * T) (hj : j ≤ 64) : bC (8 * T) z c j ≤ 601024 ∧ bS (8 * T) z c j ≤ 7293034 := by
  obtain ⟨-, -, -, h1, h2⟩ := chk_T (T := T) (by omega)
  have h3 := Nat.mul_le_mul_right (cM (8 * T)) (show z - 1 ≤ 63 - T by omega)
  have h4 := Nat.mul_le_mul_right (sM (8 * T)) (show z - 1 ≤ 63 - T by omega)
  unfold bC bS
  omega
theorem bC_z (S z c n j : Nat) : bC S z c j + (if z = 0 then 0 else cM S) + 75 * n + 282 = bC S (z + 1) (c + n) (j + 1) ∧ bS S z c j + (if z = 0 then 0 else sM S) + 1450 * n + 3012 = bS S (z + 1) (c + n) (j + 1) := by
  unfold bC bS
  cases z with
  | zero => rw [if_pos rfl, if_pos rfl]; simp; omega
  | succ z =>
    rw [if_neg (by omega), if_neg (by omega), Nat.add_sub_cancel, Nat.add_sub_cancel]
    have e1 : (z + 1) * cM S = z * cM S + cM S := Nat.succ_mul _ _
    have e2 : (z + 1) * sM S = z * sM S + sM S := Nat.succ_mul _ _
    omega
theorem bC_o (S z c j : Nat) : bC S z c j + 2 = bC S z c (j + 1) ∧ bS S z c j + 12 = bS S z c (j + 1) := by
  unfold bC bS
  omega
theorem RepC.sg {G : zE} {H : Heap} {x : Nat} {cs : List Bool} {g : Sg} (h : RepC G H x cs g) : SgOk g := by
  obtain ⟨tp, th, ed, cap, rq, wi, mz, as, rs, pad, h1, h2, h3, h4, h5⟩ := h
  exact h4
theorem RepC.obx {G : zE} {H : Heap} {x : Nat} {cs : List Bool} {g : Sg} (h : RepC G H x cs g) : ∃ vs : List Value, Ob G H x 0 vs := by
  obtain ⟨tp, th, ed, cap, rq, wi, mz, as, rs, pad, h1, -⟩ := h
  exact ⟨_, h1⟩
theorem RepT.obx {G : zE} {H : Heap} {x : Nat} {thr : Int} {g : Sg} (h : RepT G H x thr g) : ∃ vs : List Value, Ob G H x 5 vs := by
  obtain ⟨tp, th, rt, as, pad, cs, lz, h1, -⟩ := h
  exact ⟨_, h1⟩
theorem RepC.flags {G : zE} {H : Heap} {x : Nat} {cs : List Bool} {g : Sg} (h : RepC G H x cs g) : cs.length = (mrg (gReq g)).length := by
  obtain ⟨tp, th, ed, cap, rq, wi, mz, as, rs, pad, -, ⟨-, -, -, h4, -⟩, -⟩ := h
  exact h4.len.2
theorem AT.own {G : zE} {H0 : Heap} (hB : Bh G H0) : ∀ q, AT G H0 q → G.2.heap.size ≤ q := fun q h => h.elim (fun z => Nat.le_trans hB.1 z) (fun z => z.1)
theorem RepT.overW {G : zE} {U : State} {H H1 : Heap} {x o : Nat} {thr : Int} {g : Sg} {v : Int64} (hK : KK G U) (h : RepT G H x thr g) (ho : Al G H o v) (hk : ∀ q : Nat, q < H.size → ¬ (AC G H q ∨ q = o) → H1[q]? = H[q]?) : RepT G H1 x thr g := h.keptc (fun q c h1 h2 h3 => hk q h1 (fun z => by
  rcases z with (z | ⟨-, z⟩) | z
  · exact absurd h1 (Nat.not_lt.mpr z)
  · rcases h3 with e | e | e | e | e | e <;> subst e <;> rcases z with z | z | z | z | z | z <;> exact absurd rfl (h2.ne z hK rfl)
  · subst z
    rcases h3 with e | e | e | e | e | e <;> subst e <;> exact absurd rfl (h2.ne ho.cl hK rfl)))
theorem typS_len (w : Int64) (z : Int) (g : Sg) : (gTape (typS w z g)).length ≤ (gTape g).length + 8 := by
  unfold typS
  split
  · rename_i h
    show (gTape g ++ tyH w z.toNat z.toNat).length ≤ _
    rw [List.length_append, tyH_len]
    unfold tyOk at h
    simp only [Bool.and_eq_true, decide_eq_true_eq] at h
    omega
  · exact Nat.le_add_right _ _
theorem typS_eq (w : Int64) (z : Int) (g : Sg) : gTs (typS w z g) = gTs g ∧ gReq (typS w z g) = gReq g ∧ gUse (typS w z g) = gUse g := by
  unfold typS
  split <;> exact ⟨rfl, rfl, rfl⟩
theorem RI.typ {S : Nat} {g : Sg} {A K c : Nat} (h : RI S g A K c) (w : Int64) (z : Int) : RI (S + 8) (typS w z g) A K c := by
  obtain ⟨h1, h2, h3, h4, h5⟩ := h
  have hl := typS_len w z g
  obtain ⟨e1, e2, e3⟩ := typS_eq w z g
  exact ⟨by rw [e1]; exact h1, by rw [e1]; exact h2, by rw [e2]; exact h3, h4, by omega⟩
theorem SI.typ {g : Sg} {j : Nat} (h : SI g j) (w : Int64) (z : Int) : SI (typS w z g) j := by
  obtain ⟨e1, e2, e3⟩ := typS_eq w z g
  unfold SI
  rw [e1, e3]
  exact h
theorem RepT.ext {G : zE} {H H1 : Heap} {x : Nat} {thr : Int} {g : Sg} (h : RepT G H x thr g) (e : Ext H H1) : RepT G H1 x thr g := h.keptc (fun q c h1 _ _ => e.2 q h1)
theorem askS_req (g : Sg) (p : Int) : gReq (askS g p) = rdX g := by
  unfold askS
  split
  · split <;> rfl
  · rfl
theorem keepS_req (g : Sg) (p : Int) : gReq (keepS g p) = gReq g := by
  unfold keepS
  split <;> rfl
theorem agnS_req (g : Sg) (p : Int) : gReq (agnS g p) = gReq g := by
  unfold agnS
  split
  · split <;> rfl
  · rfl
