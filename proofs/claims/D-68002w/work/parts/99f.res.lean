/-! ===== what calls can cost: pure ===== -/
theorem sqn (x : Int) : 0 ≤ x * x := by
  rcases Int.le_total 0 x with h | h
  · exact Int.mul_nonneg h h
  · rw [← Int.neg_mul_neg]; exact Int.mul_nonneg (by omega) (by omega)
/-- the characters that a text's lines take -/
def nsz (T : Txt) : Nat := (T.map (fun l => l.1.length + l.2.length + 2)).sum
theorem nsz_cons (l : List Int × List Int) (T : Txt) : nsz (l :: T) = (l.1.length + l.2.length + 2) + nsz T := by unfold nsz; rw [List.map_cons, List.sum_cons]
theorem nsz_snoc (T : Txt) (l : List Int × List Int) : nsz (T ++ [l]) = nsz T + (l.1.length + l.2.length + 2) := by unfold nsz; rw [List.map_append, List.sum_append]; simp
/-- of those with one name: their characters, their values' characters, how many they are -/
def szN (nm : List Int) : Txt → Nat
  | [] => 0
  | l :: T => (if l.1 = nm then nm.length + l.2.length + 2 else 0) + szN nm T
def xN (nm : List Int) : Txt → Nat
  | [] => 0
  | l :: T => (if l.1 = nm then l.2.length else 0) + xN nm T
def cN (nm : List Int) : Txt → Nat
  | [] => 0
  | l :: T => (if l.1 = nm then 1 else 0) + cN nm T
theorem szN_eq (nm : List Int) : ∀ T : Txt, szN nm T = xN nm T + (nm.length + 2) * cN nm T
  | [] => rfl
  | l :: T => by
    have ih := szN_eq nm T
    rw [szN, xN, cN]
    split <;> grind
theorem szN_le (nm : List Int) : ∀ T : Txt, szN nm T ≤ nsz T
  | [] => Nat.zero_le _
  | l :: T => by
    have ih := szN_le nm T
    rw [szN, nsz_cons]
    split
    · rename_i h; rw [h]; omega
    · omega
theorem szN2 {a b : List Int} (hab : a ≠ b) : ∀ T : Txt, szN a T + szN b T ≤ nsz T
  | [] => Nat.zero_le _
  | l :: T => by
    have ih := szN2 hab T
    rw [szN, szN, nsz_cons]
    by_cases h : l.1 = a
    · rw [if_pos h, if_neg (fun z => hab (h.symm.trans z)), h]; omega
    · rw [if_neg h]
      split
      · rename_i h2; rw [h2]; omega
      · omega
theorem vV_some (nm : List Int) : ∀ (T : Txt) (v : List Int), ∃ w, vV nm (some v) T = some w ∧ w.length = v.length + xN nm T + cN nm T
  | [], v => ⟨v, rfl, rfl⟩
  | l :: T, v => by
    rw [vV, xN, cN]
    split
    · obtain ⟨w, h1, h2⟩ := vV_some nm T (jn (some v) l.2)
      refine ⟨w, h1, ?_⟩
      have : (jn (some v) l.2).length = v.length + (l.2.length + 1) := by show (v ++ 44 :: l.2).length = _; rw [List.length_append, List.length_cons]
      omega
    · obtain ⟨w, h1, h2⟩ := vV_some nm T v
      exact ⟨w, h1, by omega⟩
theorem vV_none (nm : List Int) : ∀ (T : Txt), (cN nm T = 0 ∧ vV nm none T = none) ∨ ∃ w, vV nm none T = some w ∧ 0 < cN nm T ∧ w.length + 1 = xN nm T + cN nm T
  | [] => Or.inl ⟨rfl, rfl⟩
  | l :: T => by
    rw [vV, xN, cN]
    split
    · obtain ⟨w, h1, h2⟩ := vV_some nm T (jn none l.2)
      have : (jn none l.2).length = l.2.length := rfl
      exact Or.inr ⟨w, h1, by omega, by omega⟩
    · rcases vV_none nm T with ⟨h1, h2⟩ | ⟨w, h1, h2, h3⟩
      · exact Or.inl ⟨by omega, h2⟩
      · exact Or.inr ⟨w, h1, by omega, by omega⟩
theorem vC_some (nm : List Int) : ∀ (T : Txt) (v : List Int), vC nm (some v) T = 2 * cN nm T
  | [], v => rfl
  | l :: T, v => by
    rw [vC, cN]
    split
    · rw [vC_some nm T, c1]; omega
    · rw [vC_some nm T]; omega
theorem vC_none (nm : List Int) : ∀ (T : Txt), (cN nm T = 0 ∧ vC nm none T = 0) ∨ (0 < cN nm T ∧ vC nm none T + 1 = 2 * cN nm T)
  | [] => Or.inl ⟨rfl, rfl⟩
  | l :: T => by
    rw [vC, cN]
    split
    · rw [vC_some, c1]; exact Or.inr ⟨by omega, by omega⟩
    · rcases vC_none nm T with ⟨h1, h2⟩ | ⟨h1, h2⟩
      · exact Or.inl ⟨by omega, h2⟩
      · exact Or.inr ⟨by omega, by omega⟩
theorem vS_some (nm : List Int) : ∀ (T : Txt) (v : List Int), 2 * vS nm (some v) T + cN nm T ≤ 2 * xN nm T + 2 * (cN nm T * (v.length + 1 + xN nm T)) + cN nm T * cN nm T
  | [], v => by simp [vS, cN, xN]
  | l :: T, v => by
    rw [vS, cN, xN]
    split
    · have ih := vS_some nm T (jn (some v) l.2)
      have e : (jn (some v) l.2).length = v.length + (l.2.length + 1) := by show (v ++ 44 :: l.2).length = _; rw [List.length_append, List.length_cons]
      rw [e] at ih
      rw [s1]
      show 2 * ((l.2.length + (v.length + 1 + l.2.length)) + vS nm (some (jn (some v) l.2)) T) + (1 + cN nm T) ≤ _
      generalize vS nm (some (jn (some v) l.2)) T = s at *
      generalize cN nm T = m at *
      generalize xN nm T = X at *
      generalize v.length = a at *
      generalize l.2.length = x at *
      clear e
      grind
    · have ih := vS_some nm T v
      simpa using ih
theorem vS_none (nm : List Int) : ∀ (T : Txt), (cN nm T = 0 ∧ vS nm none T = 0) ∨ (0 < cN nm T ∧ 2 * vS nm none T + cN nm T ≤ 2 * (cN nm T * xN nm T) + cN nm T * cN nm T)
  | [] => Or.inl ⟨rfl, rfl⟩
  | l :: T => by
    rw [vS, cN, xN]
    split
    · have ih := vS_some nm T (jn none l.2)
      have e : (jn none l.2).length = l.2.length := rfl
      rw [e] at ih
      refine Or.inr ⟨by omega, ?_⟩
      show 2 * (l.2.length + vS nm (some (jn none l.2)) T) + (1 + cN nm T) ≤ _
      generalize vS nm (some (jn none l.2)) T = s at *
      generalize cN nm T = m at *
      generalize xN nm T = X at *
      generalize l.2.length = x at *
      clear e
      grind
    · rcases vS_none nm T with ⟨h1, h2⟩ | ⟨h1, h2⟩
      · exact Or.inl ⟨by omega, h2⟩
      · exact Or.inr ⟨by omega, by simpa using h2⟩
theorem cN_pos {nm : List Int} (hn : nm ≠ []) {T : Txt} {A : Nat} (hT : nsz T ≤ A) : xN nm T + 3 * cN nm T ≤ A := by
  have h1 := szN_eq nm T
  have h2 := szN_le nm T
  have h3 : 0 < nm.length := List.length_pos_iff.mpr hn
  have h4 : 3 * cN nm T ≤ (nm.length + 2) * cN nm T := Nat.mul_le_mul_right _ (by omega)
  omega
/-- one entry of vary against a value: cells -/
theorem ent_C {nm : List Int} (hn : nm ≠ []) {T : Txt} {A : Nat} (hT : nsz T ≤ A) {w : Option (List Int)} (hw : ∀ x, w = some x → x.length + 3 ≤ A) : vC nm none T + alC w (vof T nm) ≤ 2 * A + 1 := by
  have h1 := cN_pos hn hT
  rcases vC_none nm T with ⟨a1, a2⟩ | ⟨a1, a2⟩
  · rcases vV_none nm T with ⟨b1, b2⟩ | ⟨u, b1, b2, b3⟩
    · rw [a2, vof, b2]
      cases w <;> simp [alC]
    · omega
  · rcases vV_none nm T with ⟨b1, b2⟩ | ⟨u, b1, b2, b3⟩
    · omega
    · rw [vof, b1]
      cases w with
      | none => show vC nm none T + 0 ≤ _; omega
      | some x =>
        have := hw x rfl
        show vC nm none T + (x.length + u.length + 6) ≤ _
        omega
theorem natq (A X m : Nat) (h : X + 3 * m ≤ A) : 20*(m*X) + 10*(m*m) + 30*m + 40*X + 40*A ≤ 2*(A*A) + 62*A + 80 := by
  have h1 := sqn (2*(A:Int) - 10*m - 9)
  have h2 : 0 ≤ (m:Int) * (A - 3*m - X) := Int.mul_nonneg (by omega) (by omega)
  grind
/-- .. slots -/
theorem ent_S {nm : List Int} (hn : nm ≠ []) {T : Txt} {A : Nat} (hT : nsz T ≤ A) {w : Option (List Int)} (hw : ∀ x, w = some x → x.length + 3 ≤ A) : 10 * (vS nm none T + alS w (vof T nm)) ≤ A * A + 31 * A := by
  have h1 := cN_pos hn hT
  have hq := natq A (xN nm T) (cN nm T) h1
  rcases vS_none nm T with ⟨a1, a2⟩ | ⟨a1, a2⟩
  · rcases vV_none nm T with ⟨b1, b2⟩ | ⟨u, b1, b2, b3⟩
    · rw [a2, vof, b2]
      cases w <;> simp [alS]
    · omega
  · rcases vV_none nm T with ⟨b1, b2⟩ | ⟨u, b1, b2, b3⟩
    · omega
    · rw [vof, b1]
      cases w with
      | none =>
        show 10 * (vS nm none T + 0) ≤ _
        omega
      | some x =>
        have := hw x rfl
        show 10 * (vS nm none T + (2 * x.length + 2 * u.length + 4)) ≤ _
        omega
/-- what holds of every thing kept, of its size -/
def ThR (A : Nat) (t : Th) : Prop := (∀ v ∈ tVary t, v ≠ []) ∧ (∀ w ∈ tVals t, ∀ x, w = some x → x.length + 3 ≤ A) ∧ (tVals t).length = (tVary t).length
theorem ThR.mono {A B : Nat} {t : Th} (h : ThR A t) (hAB : A ≤ B) : ThR B t := ⟨h.1, fun w hw x hx => Nat.le_trans (h.2.1 w hw x hx) hAB, h.2.2⟩
/-- all entries of vary -/
def vsz (ts : List Th) : Nat := (ts.map (fun t => (tVary t).length)).sum
theorem vsz_cons (t : Th) (ts : List Th) : vsz (t :: ts) = (tVary t).length + vsz ts := by unfold vsz; rw [List.map_cons, List.sum_cons]
theorem vsz_app (ts us : List Th) : vsz (ts ++ us) = vsz ts + vsz us := by unfold vsz; rw [List.map_append, List.sum_append]
theorem foC_le {T : Txt} {A : Nat} (hT : nsz T ≤ A) : ∀ (vs : List (List Int)) (ws : List (Option (List Int))), (∀ v ∈ vs, v ≠ []) → (∀ w ∈ ws, ∀ x, w = some x → x.length + 3 ≤ A) → foC T vs ws ≤ vs.length * (2 * A + 1) ∧ 10 * foS T vs ws ≤ vs.length * (A * A + 31 * A)
  | [], ws, _, _ => by cases ws <;> exact ⟨Nat.zero_le _, Nat.zero_le _⟩
  | v :: vs, [], _, _ => ⟨Nat.zero_le _, Nat.zero_le _⟩
  | v :: vs, w :: ws, h1, h2 => by
    obtain ⟨i1, i2⟩ := foC_le hT vs ws (fun v h => h1 v (List.mem_cons_of_mem _ h)) (fun w h => h2 w (List.mem_cons_of_mem _ h))
    have e1 := ent_C (h1 v List.mem_cons_self) hT (h2 w List.mem_cons_self)
    have e2 := ent_S (h1 v List.mem_cons_self) hT (h2 w List.mem_cons_self)
    rw [foC, foS, List.length_cons, Nat.succ_mul vs.length (2 * A + 1), Nat.succ_mul vs.length (A * A + 31 * A)]
    omega
theorem theC_le {T : Txt} {A : Nat} (hT : nsz T ≤ A) : ∀ ts : List Th, (∀ t ∈ ts, ThR A t) → theC T ts ≤ vsz ts * (2 * A + 1) ∧ 10 * theS T ts ≤ vsz ts * (A * A + 31 * A)
  | [], _ => ⟨Nat.zero_le _, Nat.zero_le _⟩
  | t :: ts, h => by
    obtain ⟨i1, i2⟩ := theC_le hT ts (fun t h2 => h t (List.mem_cons_of_mem _ h2))
    have ht := h t List.mem_cons_self
    obtain ⟨e1, e2⟩ := foC_le hT (tVary t) (tVals t) ht.1 ht.2.1
    have f1 : theC T (t :: ts) = foC T (tVary t) (tVals t) + theC T ts := by unfold theC; rw [List.map_cons, List.sum_cons]
    have f2 : theS T (t :: ts) = foS T (tVary t) (tVals t) + theS T ts := by unfold theS; rw [List.map_cons, List.sum_cons]
    rw [f1, f2, vsz_cons, Nat.add_mul, Nat.add_mul]
    omega
theorem lk_le {A : Nat} : ∀ ws us : List (Option (List Int)), (∀ w ∈ ws, ∀ x, w = some x → x.length + 3 ≤ A) → (∀ w ∈ us, ∀ x, w = some x → x.length + 3 ≤ A) → lkC ws us ≤ ws.length * (2 * A + 1) ∧ 10 * lkS ws us ≤ ws.length * (A * A + 31 * A)
  | [], us, _, _ => by cases us <;> exact ⟨Nat.zero_le _, Nat.zero_le _⟩
  | w :: ws, [], _, _ => ⟨Nat.zero_le _, Nat.zero_le _⟩
  | w :: ws, u :: us, h1, h2 => by
    obtain ⟨i1, i2⟩ := lk_le ws us (fun v h => h1 v (List.mem_cons_of_mem _ h)) (fun w h => h2 w (List.mem_cons_of_mem _ h))
    have g1 := h1 w List.mem_cons_self
    have g2 := h2 u List.mem_cons_self
    have e1 : alC w u ≤ 2 * A + 1 ∧ 10 * alS w u ≤ A * A + 31 * A := by
      cases w with
      | none => exact ⟨Nat.zero_le _, Nat.zero_le _⟩
      | some x =>
        cases u with
        | none => exact ⟨Nat.zero_le _, Nat.zero_le _⟩
        | some y =>
          have a1 := g1 x rfl
          have a2 := g2 y rfl
          have a3 := sqn (2 * (A : Int) - 9)
          have a4 : 40 * A ≤ A * A + 31 * A + 80 := by grind
          constructor
          · show x.length + y.length + 6 ≤ _; omega
          · show 10 * (2 * x.length + 2 * y.length + 4) ≤ _; omega
    rw [lkC, lkS, List.length_cons, Nat.succ_mul ws.length (2 * A + 1), Nat.succ_mul ws.length (A * A + 31 * A)]
    omega
theorem pl_le {A : Nat} {g : Th} (hg : ∀ w ∈ tVals g, ∀ x, w = some x → x.length + 3 ≤ A) : ∀ ts : List Th, (∀ t ∈ ts, ThR A t) → plC g ts ≤ vsz ts * (2 * A + 1) ∧ 10 * plS g ts ≤ vsz ts * (A * A + 31 * A)
  | [], _ => ⟨Nat.zero_le _, Nat.zero_le _⟩
  | t :: ts, h => by
    obtain ⟨i1, i2⟩ := pl_le hg ts (fun t h2 => h t (List.mem_cons_of_mem _ h2))
    have ht := h t List.mem_cons_self
    obtain ⟨e1, e2⟩ := lk_le (tVals t) (tVals g) ht.2.1 hg
    rw [ht.2.2] at e1 e2
    have f1 : plC g (t :: ts) = (if tVary t = tVary g then lkC (tVals t) (tVals g) else 0) + plC g ts := by unfold plC; rw [List.map_cons, List.sum_cons]
    have f2 : plS g (t :: ts) = (if tVary t = tVary g then lkS (tVals t) (tVals g) else 0) + plS g ts := by unfold plS; rw [List.map_cons, List.sum_cons]
    rw [f1, f2, vsz_cons, Nat.add_mul, Nat.add_mul]
    split <;> omega
theorem vC_lin {nm : List Int} (hn : nm ≠ []) {T : Txt} {A : Nat} (hT : nsz T ≤ A) : 3 * vC nm none T ≤ 2 * A ∧ 10 * vS nm none T ≤ A * A := by
  have h1 := cN_pos hn hT
  refine ⟨?_, ?_⟩
  · rcases vC_none nm T with ⟨a1, a2⟩ | ⟨a1, a2⟩ <;> omega
  · rcases vS_none nm T with ⟨a1, a2⟩ | ⟨a1, a2⟩
    · rw [a2]; exact Nat.zero_le _
    · generalize cN nm T = m at *
      generalize xN nm T = X at *
      generalize vS nm none T = s at *
      have h2 := sqn (5 * (m : Int) - A)
      have h3 : 0 ≤ (m : Int) * (A - 3 * m - X) := Int.mul_nonneg (by omega) (by omega)
      have h4 : m ≤ m * m := Nat.le_mul_of_pos_left m a1
      grind
theorem kv_le {R : Txt} {A : Nat} (hR : nsz R ≤ A) : ∀ vs : List (List Int), (∀ v ∈ vs, v ≠ []) → 3 * kvC R vs ≤ vs.length * (2 * A) ∧ 10 * kvS R vs ≤ vs.length * (A * A)
  | [], _ => ⟨Nat.zero_le _, Nat.zero_le _⟩
  | v :: vs, h => by
    obtain ⟨i1, i2⟩ := kv_le hR vs (fun v h2 => h v (List.mem_cons_of_mem _ h2))
    obtain ⟨e1, e2⟩ := vC_lin (h v List.mem_cons_self) hR
    have f1 : kvC R (v :: vs) = vC v none R + kvC R vs := by unfold kvC; rw [List.map_cons, List.sum_cons]
    have f2 : kvS R (v :: vs) = vS v none R + kvS R vs := by unfold kvS; rw [List.map_cons, List.sum_cons]
    rw [f1, f2, List.length_cons, Nat.succ_mul vs.length (2 * A), Nat.succ_mul vs.length (A * A)]
    omega
/-- a value's length -/
theorem vof_len {nm : List Int} {T : Txt} {u : List Int} (h : vof T nm = some u) : u.length + nm.length + 2 ≤ szN nm T := by
  have h1 := szN_eq nm T
  rcases vV_none nm T with ⟨b1, b2⟩ | ⟨w, b1, b2, b3⟩
  · rw [vof, b2] at h; cases h
  · rw [vof, b1] at h
    cases h
    generalize cN nm T = m at *
    generalize nm.length = a at *
    have : a * 1 ≤ a * m := Nat.mul_le_mul_left a b2
    grind
theorem vof_c {nm : List Int} (hn : nm ≠ []) {T : Txt} {A : Nat} (hT : nsz T ≤ A) {u : List Int} (h : vof T nm = some u) : u.length + 3 ≤ A := by
  have h1 := vof_len h
  have h2 := szN_le nm T
  have h3 : 0 < nm.length := List.length_pos_iff.mpr hn
  omega
/-- a value with what finding it costs -/
theorem vofC {nm : List Int} (hn : nm ≠ []) {T : Txt} {A : Nat} (hT : nsz T ≤ A) {u : List Int} (h : vof T nm = some u) : vC nm none T + 2 * u.length ≤ 2 * A := by
  have h1 := cN_pos hn hT
  rcases vV_none nm T with ⟨b1, b2⟩ | ⟨w, b1, b2, b3⟩
  · rw [vof, b2] at h; cases h
  · rw [vof, b1] at h
    cases h
    rcases vC_none nm T with ⟨a1, a2⟩ | ⟨a1, a2⟩ <;> omega
/-! ===== the greatest of a row of numbers ===== -/
def mxF (f : Nat → Nat) : Nat → Nat
  | 0 => f 0
  | n + 1 => Nat.max (f (n + 1)) (mxF f n)
theorem le_mxF (f : Nat → Nat) : ∀ {n A : Nat}, A ≤ n → f A ≤ mxF f n
  | 0, A, h => by rw [Nat.le_zero.mp h]; exact Nat.le_refl _
  | n + 1, A, h => by
    rcases Nat.lt_or_ge n A with g | g
    · rw [show A = n + 1 by omega]; exact Nat.le_max_left _ _
    · exact Nat.le_trans (le_mxF f g) (Nat.le_max_right _ _)
def fC1 (S A : Nat) : Nat := (S - 12 - A) * (2 * A + 1) / 2 + 2 * A
def fS1 (S A : Nat) : Nat := (S - 10 - A) * (A * A + 31 * A) / 20
def fC2 (S A : Nat) : Nat := (S - 5 - A) * A / 3 + 2 * A
def fS2 (S A : Nat) : Nat := ((S - 3 - A) * (A * A) + 60 * A) / 20
/-- the most that one call's dear part costs, with S characters typed in all -/
def cM (S : Nat) : Nat := mxF (fC1 S) S + 70
def sM (S : Nat) : Nat := mxF (fS1 S) S + 500
def chk (T : Nat) : Bool := decide (mxF (fC2 (8 * T)) (8 * T) ≤ cM (8 * T) ∧ mxF (fS2 (8 * T)) (8 * T) ≤ sM (8 * T) ∧ (8 * T * (8 * T) + 31 * (8 * T)) / 10 ≤ sM (8 * T) ∧ (63 - T) * cM (8 * T) + 75 * (8 * T) + 280 * (64 - T) + 600 ≤ 601024 ∧ (63 - T) * sM (8 * T) + 1450 * (8 * T) + 3000 * (64 - T) + 6000 ≤ 7293034)
theorem chk_ok : ((List.range 65).all chk) = true := by decide +kernel
theorem chk_T {T : Nat} (h : T ≤ 64) : mxF (fC2 (8 * T)) (8 * T) ≤ cM (8 * T) ∧ mxF (fS2 (8 * T)) (8 * T) ≤ sM (8 * T) ∧ (8 * T * (8 * T) + 31 * (8 * T)) / 10 ≤ sM (8 * T) ∧ (63 - T) * cM (8 * T) + 75 * (8 * T) + 280 * (64 - T) + 600 ≤ 601024 ∧ (63 - T) * sM (8 * T) + 1450 * (8 * T) + 3000 * (64 - T) + 6000 ≤ 7293034 :=
  of_decide_eq_true (List.all_eq_true.mp chk_ok T (List.mem_range.mpr (by omega)))
