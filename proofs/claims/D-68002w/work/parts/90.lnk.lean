/-! ===== what the component computes is what the model computes: pure ===== -/
theorem spl_no : ∀ (v p : List Int), p ∈ spl v → (44 : Int) ∉ p
  | [], p, h => by
    rw [spl] at h
    rw [List.mem_singleton.mp h]; exact List.not_mem_nil
  | d :: v, p, h => by
    rw [spl] at h
    split at h
    · rcases List.mem_cons.mp h with q | q
      · rw [q]; exact List.not_mem_nil
      · exact spl_no v p q
    · rename_i hd
      cases hs : spl v with
      | nil => exact absurd hs (spl_ne v)
      | cons y ys =>
        rw [hs] at h
        rcases List.mem_cons.mp h with q | q
        · rw [q]
          intro z
          rcases List.mem_cons.mp z with z | z
          · exact hd z.symm
          · exact spl_no v y (by rw [hs]; exact List.mem_cons_self) z
        · exact spl_no v p (by rw [hs]; exact List.mem_cons_of_mem _ q)
theorem lst_no {v x : List Int} (h : x ∈ lst v) : (44 : Int) ∉ x := by
  obtain ⟨h1, -⟩ := List.mem_filter.mp h
  obtain ⟨p, hp, rfl⟩ := List.mem_map.mp h1
  exact fun z => spl_no v p hp (trim_mem z)
theorem app_no : ∀ (a b : List Int) {x y : List Int}, (44 : Int) ∉ a → (44 : Int) ∉ b → a ++ 44 :: x = b ++ 44 :: y → a = b ∧ x = y
  | [], [], x, y, _, _, h => by cases h; exact ⟨rfl, rfl⟩
  | [], d :: b, x, y, _, hb, h => by
    injection h with h1 h2
    exact absurd (by rw [h1]; exact List.mem_cons_self) hb
  | c :: a, [], x, y, ha, _, h => by
    injection h with h1 h2
    exact absurd (by rw [h1]; exact List.mem_cons_self) ha
  | c :: a, d :: b, x, y, ha, hb, h => by
    injection h with h1 h2
    obtain ⟨e1, e2⟩ := app_no a b (fun z => ha (List.mem_cons_of_mem _ z)) (fun z => hb (List.mem_cons_of_mem _ z)) h2
    exact ⟨by rw [h1, e1], e2⟩
theorem flat_inj : ∀ (L M : List (List Int)), (∀ x ∈ L, (44 : Int) ∉ x) → (∀ x ∈ M, (44 : Int) ∉ x) → L.flatMap (fun x => x ++ [44]) = M.flatMap (fun x => x ++ [44]) → L = M
  | [], [], _, _, _ => rfl
  | [], y :: M, _, _, h => by
    rw [List.flatMap_cons, List.flatMap_nil] at h
    have := congrArg List.length h
    simp at this
  | x :: L, [], _, _, h => by
    rw [List.flatMap_cons, List.flatMap_nil] at h
    have := congrArg List.length h
    simp at this
  | x :: L, y :: M, hL, hM, h => by
    rw [List.flatMap_cons, List.flatMap_cons, List.append_assoc, List.append_assoc] at h
    obtain ⟨e1, e2⟩ := app_no x y (hL x List.mem_cons_self) (hM y List.mem_cons_self) h
    rw [e1, flat_inj L M (fun z hz => hL z (List.mem_cons_of_mem _ hz)) (fun z hz => hM z (List.mem_cons_of_mem _ hz)) e2]
theorem lsd_inj {x y : List Int} : lsd x = lsd y ↔ lst x = lst y := ⟨fun h => flat_inj _ _ (fun _ h => lst_no h) (fun _ h => lst_no h) h, fun h => by rw [lsd, lsd, h]⟩
theorem lsd_b (x : List Int) : lsd x ≠ [32] := by
  intro h
  unfold lsd at h
  cases hl : lst x with
  | nil => rw [hl] at h; cases h
  | cons a L =>
    rw [hl, List.flatMap_cons] at h
    cases a with
    | nil => exact lst_ne (v := x) (by rw [hl]; exact List.mem_cons_self) rfl
    | cons c a =>
      injection h with h1 h2
      have := congrArg List.length h2
      simp at this
theorem lsO_alk (a b : Option (List Int)) : decide (lsO a = lsO b) = alk b a := by
  cases a with
  | none => cases b with
    | none => rfl
    | some y => exact decide_eq_false (fun z => lsd_b y z.symm)
  | some x => cases b with
    | none => exact decide_eq_false (fun z => lsd_b x z)
    | some y =>
      show decide (lsd x = lsd y) = decide (lst y = lst x)
      by_cases e : lst x = lst y
      · rw [decide_eq_true (lsd_inj.mpr e), decide_eq_true e.symm]
      · rw [decide_eq_false (fun z => e (lsd_inj.mp z)), decide_eq_false (fun z => e z.symm)]
theorem forX_eq (T : Txt) : ∀ (vs : List (List Int)) (ws : List (Option (List Int))), forX (mrg T) vs ws = forR T vs ws
  | [], ws => by cases ws <;> rfl
  | v :: vs, [] => rfl
  | v :: vs, w :: ws => by rw [forX, forR, lsO_alk, (mrg_ok T v).2, forX_eq T vs ws]
theorem lix_snoc {A : Type} (q : A → Bool) (t : A) : ∀ (ts : List A) (i : Nat) (f : Int), lix q (ts ++ [t]) i f = if q t = true then ((i + ts.length : Nat) : Int) else lix q ts i f
  | [], i, f => rfl
  | u :: ts, i, f => by
    rw [List.cons_append, lix, lix_snoc q t ts, lix, List.length_cons, Nat.add_right_comm, Nat.add_assoc]
theorem oneX_eq (T : Txt) (p0 : Int) (ts : List Th) : ∀ n : Nat, n ≤ ts.length → oneX (mrg T) p0 ts n = lix (isOne T p0) (ts.take n) 0 (-1)
  | 0, _ => rfl
  | n + 1, h => by
    have h1 : ts[n]? = some (ts[n]'(by omega)) := List.getElem?_eq_getElem _
    rw [oneX, h1, List.take_succ_eq_append_getElem (by omega), lix_snoc, oneX_eq T p0 ts n (by omega), List.length_take, Nat.min_eq_left (by omega), Nat.zero_add]
    show (if tPath ts[n] = p0 ∧ forX (mrg T) (tVary ts[n]) (tVals ts[n]) = true then (n : Int) else _) = if (decide (tPath ts[n] = p0) && forR T (tVary ts[n]) (tVals ts[n])) = true then (n : Int) else _
    rw [forX_eq]
    by_cases e : tPath ts[n] = p0
    · rw [decide_eq_true e, Bool.true_and]
      by_cases e2 : forR T (tVary ts[n]) (tVals ts[n]) = true
      · rw [if_pos ⟨e, e2⟩, if_pos e2]
      · rw [if_neg (fun z => e2 z.2), if_neg e2]
    · rw [decide_eq_false e, Bool.false_and, if_neg (fun z => e z.1), if_neg Bool.false_ne_true]
theorem oneX_lix (T : Txt) (p0 : Int) (ts : List Th) : oneX (mrg T) p0 ts ts.length = lix (isOne T p0) ts 0 (-1) := by
  rw [oneX_eq T p0 ts _ (Nat.le_refl _), List.take_length]
theorem likeV_eq : ∀ (ws us : List (Option (List Int))), ws.length = us.length → likeV ws us = decide (ws.map lsO = us.map lsO)
  | [], [], _ => rfl
  | [], u :: us, h => by cases h
  | w :: ws, [], h => by cases h
  | w :: ws, u :: us, h => by
    rw [likeV, likeV_eq ws us (Nat.succ.inj h), ← lsO_alk, List.map_cons, List.map_cons]
    by_cases e : lsO u = lsO w
    · rw [decide_eq_true e, Bool.true_and]
      by_cases e2 : ws.map lsO = us.map lsO
      · rw [decide_eq_true e2, decide_eq_true (by rw [e, e2])]
      · rw [decide_eq_false e2, decide_eq_false (fun z => e2 (by injection z))]
    · rw [decide_eq_false e, Bool.false_and, decide_eq_false (fun z => e (by injection z with z1 z2; exact z1.symm))]
theorem isLk_eq {g t : Th} (hg : (tVals g).length = (tVary g).length) (ht : (tVals t).length = (tVary t).length) : isLk g t = (decide (tPath t = tPath g) && decide (tVary t = tVary g) && decide ((tVals t).map lsO = (tVals g).map lsO)) := by
  unfold isLk
  by_cases e : tVary t = tVary g
  · rw [likeV_eq _ _ (by rw [hg, ht, e])]
  · rw [decide_eq_false e, Bool.and_false, Bool.false_and, Bool.false_and]
def Lk (g t : Th) : Prop := tPath t = tPath g ∧ tVary t = tVary g ∧ (tVals t).map lsO = (tVals g).map lsO
theorem isLk_iff {g t : Th} (hg : ThOk g) (ht : ThOk t) : isLk g t = true ↔ Lk g t := by
  rw [isLk_eq hg.2.2.2.2.1 ht.2.2.2.2.1]
  simp only [Bool.and_eq_true, decide_eq_true_eq, Lk, and_assoc]
theorem Lk.sym {g t : Th} (h : Lk g t) : Lk t g := ⟨h.1.symm, h.2.1.symm, h.2.2.symm⟩
theorem Lk.tr {a b c : Th} (h : Lk a b) (h2 : Lk b c) : Lk a c := ⟨h2.1.trans h.1, h2.2.1.trans h.2.1, h2.2.2.trans h.2.2⟩
/-- no two things alike; the things fit -/
def NLk (ts : List Th) : Prop := ts.Pairwise (fun a b => ¬ Lk a b)
theorem fix1_dr {A : Type} (q : A → Bool) : ∀ (ts : List A) (i : Nat), (ts.filter q).length ≤ 1 → ts.filter (fun t => !q t) = if fix1 q ts i = -1 then ts else rmi ts (fix1 q ts i - i).toNat
  | [], i, _ => rfl
  | t :: ts, i, h => by
    rw [fix1]
    cases hq : q t with
    | true =>
      rw [if_pos rfl, if_neg (by omega), List.filter_cons_of_neg (by rw [hq]; decide)]
      rw [List.filter_cons_of_pos hq, List.length_cons] at h
      have h0 : ts.filter q = [] := List.eq_nil_of_length_eq_zero (by omega)
      rw [show ((i : Int) - i).toNat = 0 by omega]
      show _ = ts
      refine List.filter_eq_self.mpr (fun a ha => ?_)
      cases hqa : q a with
      | false => rfl
      | true => exact absurd (List.mem_filter.mpr ⟨ha, hqa⟩) (by rw [h0]; exact List.not_mem_nil)
    | false =>
      rw [if_neg Bool.false_ne_true, List.filter_cons_of_pos (by rw [hq]; rfl)]
      rw [List.filter_cons_of_neg (by rw [hq]; decide)] at h
      have hr := fix1_rg q ts (i + 1)
      rw [fix1_dr q ts (i + 1) h]
      split
      · rfl
      · rename_i hne
        rcases fix1_or q ts (i + 1) with ⟨h1, -⟩ | ⟨k, u, h1, -⟩
        · exact absurd h1 hne
        · rw [h1, show ((i + 1 + k : Nat) : Int) - ((i + 1 : Nat) : Int) = (k : Int) by omega, show ((i + 1 + k : Nat) : Int) - (i : Int) = ((k + 1 : Nat) : Int) by omega, Int.toNat_natCast, Int.toNat_natCast]
          rfl
theorem lk_few {g : Th} (hg : ThOk g) : ∀ (ts : List Th), (∀ t ∈ ts, ThOk t) → NLk ts → (ts.filter (isLk g)).length ≤ 1
  | [], _, _ => Nat.zero_le _
  | t :: ts, ho, hn => by
    have hn2 := List.pairwise_cons.mp hn
    cases hq : isLk g t with
    | false =>
      rw [List.filter_cons_of_neg (by rw [hq]; decide)]
      exact lk_few hg ts (fun a ha => ho a (List.mem_cons_of_mem _ ha)) hn2.2
    | true =>
      have h0 : ts.filter (isLk g) = [] := List.filter_eq_nil_iff.mpr (fun a ha hl => hn2.1 a ha (((isLk_iff hg (ho t List.mem_cons_self)).mp hq).sym.tr ((isLk_iff hg (ho a (List.mem_cons_of_mem _ ha))).mp hl)))
      rw [List.filter_cons_of_pos hq, h0]
      exact Nat.le_refl _
theorem kTs1_eq {g : Sg} {p : Int} (hg : ThOk (kTh g p)) (ho : ∀ t ∈ gTs g, ThOk t) (hn : NLk (gTs g)) : kTs1 g p = (gTs g).filter (fun t => !isLk (kTh g p) t) := by
  rw [fix1_dr _ _ 0 (lk_few hg _ ho hn), kTs1]
  split
  · rfl
  · rw [show (fix1 (isLk (kTh g p)) (gTs g) 0 - ((0 : Nat) : Int)) = fix1 (isLk (kTh g p)) (gTs g) 0 by omega]
/-! words, times -/
theorem sw_nn {z : Int} (h : -2 ≤ z) : (0 ≤ sw z ↔ 0 ≤ z) ∧ (0 ≤ z → sw z = z) := by unfold sw; split <;> (try split) <;> omega
theorem lifeX_eq (v : Option (List Int)) (T : Txt) : lifeX (ctG (ctL v) nSm) (ctG (ctL v) nMa) (secO (hdV (mrg T) nDate)) (secO (hdV (mrg T) nExp)) = lifeOf (wrd v nSm) (wrd v nMa) T := by
  have h1 := sw_nn (wrd_rg v nSm).1
  have h2 := sw_nn (wrd_rg v nMa).1
  have e1 : secO (vof T nDate) = nIn T nDate := by unfold nIn; cases vof T nDate <;> rfl
  have e2 : secO (vof T nExp) = nIn T nExp := by unfold nIn; cases vof T nExp <;> rfl
  have r1 := nIn_rg T nDate
  have r2 := nIn_rg T nExp
  rw [(ctL_ok v nSm).2, (ctL_ok v nMa).2, (mrg_ok T nDate).2, (mrg_ok T nExp).2, e1, e2, lifeX, lifeOf, btw]
  by_cases c1 : 0 ≤ wrd v nSm
  · rw [if_pos (h1.1.mpr c1), if_pos c1, h1.2 c1]
  · rw [if_neg (fun z => c1 (h1.1.mp z)), if_neg c1]
    by_cases c2 : 0 ≤ wrd v nMa
    · rw [if_pos (h2.1.mpr c2), if_pos c2, h2.2 c2]
    · rw [if_neg (fun z => c2 (h2.1.mp z)), if_neg c2]
      generalize nIn T nDate = a at *
      generalize nIn T nExp = b at *
      clear h1 h2 c1 c2
      by_cases c3 : a = -1 ∨ b = -1
      · rw [if_pos c3, if_neg (by omega)]
      · rw [if_neg c3]
        by_cases c4 : a < b
        · rw [if_pos c4, if_pos (by omega)]
        · rw [if_neg c4, if_neg (by omega)]
theorem ageX_eq (T : Txt) : ageX (secO (hdV (mrg T) nAge)) = ageIn T := by
  have e1 : secO (vof T nAge) = nIn T nAge := by unfold nIn; cases vof T nAge <;> rfl
  rw [(mrg_ok T nAge).2, e1]; rfl
theorem frX_eq (t : Th) (ti : Int) : frX (ctL (tCc t)) (tLife t) (tAge t) (tSince t) ti = frs t ti := by
  unfold frX frs agT
  rw [← ctL_has]
  congr 1
  by_cases h : ctF (ctL (tCc t)) nNc = -1
  · rw [decide_eq_true h, decide_eq_false (fun z => z h)]; rfl
  · rw [decide_eq_false h, decide_eq_true h]; rfl
theorem stX_eq (v : Option (List Int)) : stX (ctL v) = mka v := by
  unfold stX mka
  rw [ctL_has, ctL_has, ctL_has, ctL_has]
  show (hasW v nNc || hasW v nMr || hasW v nPr || hasW v nSm) = (hasW v nNc || hasW v nSm || hasW v nMr || hasW v nPr)
  cases hasW v nNc <;> cases hasW v nMr <;> cases hasW v nPr <;> cases hasW v nSm <;> rfl
theorem sw_rg {z : Int} (h : -2 ≤ z ∧ z < 1000000) : -2 ≤ sw z ∧ sw z < 1000000 ∧ (sw z < 0 ↔ z < 0) ∧ (0 ≤ z → sw z = z) := by unfold sw; split <;> (try split) <;> omega
theorem ans_rg (v : Option (List Int)) (t : Th) (ti : Int) : 1 ≤ ans v t ti ∧ ans v t ti ≤ 3 := by
  unfold ans
  split
  · decide
  · split
    · decide
    · split
      · split <;> decide
      · split <;> decide
theorem b2i_eq0 {b : Bool} (h : b2i b = 0) : b = false := by cases b with | false => rfl | true => cases h
theorem b2i_ne0 {b : Bool} (h : ¬ b2i b = 0) : b = true := by cases b with | true => rfl | false => exact absurd rfl h
