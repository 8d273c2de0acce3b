/-! ===== first places; words of cache-control: pure ===== -/
theorem fix1_or {A : Type} (q : A → Bool) : ∀ (ts : List A) (i : Nat), (fix1 q ts i = -1 ∧ ∀ t ∈ ts, q t = false) ∨ ∃ (k : Nat) (t : A), fix1 q ts i = ((i + k : Nat) : Int) ∧ ts[k]? = some t ∧ q t = true ∧ ∀ (j : Nat) (u : A), j < k → ts[j]? = some u → q u = false
  | [], i => Or.inl ⟨rfl, fun t h => by cases h⟩
  | t :: ts, i => by
    rw [fix1]
    cases h : q t with
    | true =>
      refine Or.inr ⟨0, t, by rw [if_pos rfl]; rfl, rfl, h, fun j u hj => absurd hj (Nat.not_lt_zero _)⟩
    | false =>
      rw [if_neg Bool.false_ne_true]
      rcases fix1_or q ts (i + 1) with ⟨h1, h2⟩ | ⟨k, u, h1, h2, h3, h4⟩
      · refine Or.inl ⟨h1, fun u hu => ?_⟩
        rcases List.mem_cons.mp hu with e | e
        · rw [e]; exact h
        · exact h2 u e
      · refine Or.inr ⟨k + 1, u, by rw [h1]; congr 1; omega, h2, h3, fun j w hj hw => ?_⟩
        cases j with
        | zero => cases hw; exact h
        | succ j => exact h4 j w (by omega) hw
theorem fix1_no {A : Type} {q : A → Bool} {ts : List A} {i : Nat} (h : ∀ t ∈ ts, q t = false) : fix1 q ts i = -1 := by
  rcases fix1_or q ts i with ⟨h1, -⟩ | ⟨k, t, -, h2, h3, -⟩
  · exact h1
  · rw [h t (List.mem_of_getElem? h2)] at h3; cases h3
theorem fix1_at {A : Type} {q : A → Bool} {ts : List A} {k : Nat} {t : A} (h1 : ts[k]? = some t) (h2 : q t = true) (h3 : ∀ (j : Nat) (u : A), j < k → ts[j]? = some u → q u = false) : fix1 q ts 0 = (k : Int) := by
  rcases fix1_or q ts 0 with ⟨-, h4⟩ | ⟨k', t', g1, g2, g3, g4⟩
  · rw [h4 t (List.mem_of_getElem? h1)] at h2; cases h2
  · rw [g1, Nat.zero_add]
    rcases Nat.lt_trichotomy k k' with e | e | e
    · rw [g4 k t e h1] at h2; cases h2
    · rw [e]
    · rw [h3 k' t' e g2] at g3; cases g3
abbrev KV : Type := List (List Int × Int)
def ctF (kv : KV) (nm : List Int) : Int := fix1 (fun q => decide (q.1 = nm)) kv 0
def ctG (kv : KV) (nm : List Int) : Int := if ctF kv nm = -1 then -1 else (kv.getD (ctF kv nm).toNat ([], 0)).2
def ctV (s : List Int) : Int := if eqi s = s.length then -2 else numOf (s.drop (eqi s + 1))
def ctR (kv : KV) (nm : List Int) : KV := if ctF kv nm = -1 then kv else rmi kv (ctF kv nm).toNat
def ctA (kv : KV) (s : List Int) : KV := if isNm (s.take (eqi s)) = true ∧ ctV s ≠ -1 then ctR kv (s.take (eqi s)) ++ [(s.take (eqi s), ctV s)] else kv
def ctL (v : Option (List Int)) : KV := match v with
  | none => []
  | some x => (lst (x.map smI)).foldl ctA []
def ctN (kv : KV) : Prop := (kv.map (fun q => q.1)).Nodup
theorem ctF_or (kv : KV) (nm : List Int) : (ctF kv nm = -1 ∧ ∀ t ∈ kv, t.1 ≠ nm) ∨ ∃ (k : Nat) (t : List Int × Int), ctF kv nm = (k : Int) ∧ kv[k]? = some t ∧ t.1 = nm := by
  rcases fix1_or (fun q : List Int × Int => decide (q.1 = nm)) kv 0 with ⟨h1, h2⟩ | ⟨k, t, h1, h2, h3, -⟩
  · exact Or.inl ⟨h1, fun t ht => of_decide_eq_false (h2 t ht)⟩
  · exact Or.inr ⟨k, t, by rw [ctF, h1, Nat.zero_add], h2, of_decide_eq_true h3⟩
theorem ctF_no {kv : KV} {nm : List Int} (h : ∀ t ∈ kv, t.1 ≠ nm) : ctF kv nm = -1 := fix1_no (fun t ht => decide_eq_false (h t ht))
theorem ctN_uniq {kv : KV} (h : ctN kv) {i j : Nat} {t u : List Int × Int} (hi : kv[i]? = some t) (hj : kv[j]? = some u) (he : t.1 = u.1) : i = j := by
  by_cases e : i = j
  · exact e
  · exfalso
    have h1 : (kv.map (fun q => q.1))[i]? = some t.1 := by rw [List.getElem?_map, hi]; rfl
    have h2 : (kv.map (fun q => q.1))[j]? = some u.1 := by rw [List.getElem?_map, hj]; rfl
    obtain ⟨a1, a2⟩ := List.getElem?_eq_some_iff.mp h1
    obtain ⟨b1, b2⟩ := List.getElem?_eq_some_iff.mp h2
    have hp := List.pairwise_iff_getElem.mp h
    rcases Nat.lt_or_gt_of_ne e with z | z
    · exact hp i j a1 b1 z (a2.trans (he.trans b2.symm))
    · exact hp j i b1 a1 z (b2.trans (he.symm.trans a2.symm))
theorem ctG_at {kv : KV} (hn : ctN kv) {k : Nat} {t : List Int × Int} (h : kv[k]? = some t) : ctG kv t.1 = t.2 ∧ ctF kv t.1 = (k : Int) := by
  rcases ctF_or kv t.1 with ⟨-, h2⟩ | ⟨k', u, h1, h2, h3⟩
  · exact absurd rfl (h2 t (List.mem_of_getElem? h))
  · have := ctN_uniq hn h2 h h3
    subst this
    refine ⟨?_, h1⟩
    rw [ctG, h1, if_neg (by omega), Int.toNat_natCast, List.getD_eq_getElem?_getD, h]; rfl
theorem ctG_no {kv : KV} {nm : List Int} (h : ∀ t ∈ kv, t.1 ≠ nm) : ctG kv nm = -1 := by rw [ctG, if_pos (ctF_no h)]
theorem rmi_get {A : Type} {xs : List A} {i j : Nat} : (rmi xs i)[j]? = if j < min i xs.length then xs[j]? else xs[i + 1 + (j - min i xs.length)]? := by
  unfold rmi
  split
  · rw [List.getElem?_append_left (by rw [List.length_take]; assumption), List.getElem?_take, if_pos (by omega)]
  · rw [List.getElem?_append_right (by rw [List.length_take]; omega), List.getElem?_drop, List.length_take]
theorem ctR_mem {kv : KV} (hn : ctN kv) (nm : List Int) (t : List Int × Int) : t ∈ ctR kv nm ↔ t ∈ kv ∧ t.1 ≠ nm := by
  unfold ctR
  rcases ctF_or kv nm with ⟨h1, h2⟩ | ⟨k, u, h1, h2, h3⟩
  · rw [if_pos h1]
    exact ⟨fun h => ⟨h, h2 t h⟩, fun h => h.1⟩
  · rw [if_neg (by omega), h1, Int.toNat_natCast]
    have hk := (List.getElem?_eq_some_iff.mp h2).1
    constructor
    · intro h
      refine ⟨rmi_mem h, fun e => ?_⟩
      obtain ⟨j, hj⟩ := List.getElem?_of_mem h
      rw [rmi_get] at hj
      split at hj
      · have := ctN_uniq hn hj h2 (e.trans h3.symm); omega
      · have := ctN_uniq hn hj h2 (e.trans h3.symm); omega
    · rintro ⟨h, he⟩
      obtain ⟨j, hj⟩ := List.getElem?_of_mem h
      have hjl := (List.getElem?_eq_some_iff.mp hj).1
      by_cases e1 : j < k
      · refine List.mem_of_getElem? (i := j) ?_
        rw [rmi_get, if_pos (by omega)]; exact hj
      · by_cases e2 : j = k
        · subst e2; rw [h2] at hj; cases hj; exact absurd h3 he
        · refine List.mem_of_getElem? (i := j - 1) ?_
          rw [rmi_get, if_neg (by omega), show k + 1 + (j - 1 - min k kv.length) = j by omega]; exact hj
theorem ctR_N {kv : KV} (hn : ctN kv) (nm : List Int) : ctN (ctR kv nm) := by
  unfold ctR ctN
  split
  · exact hn
  · rw [rmi_map]
    exact hn.sublist (rmi_sub _ _)
theorem ctA_N {kv : KV} (hn : ctN kv) (s : List Int) : ctN (ctA kv s) := by
  unfold ctA
  split
  · unfold ctN
    rw [List.map_append, List.nodup_append]
    refine ⟨ctR_N hn _, by simp, fun a ha b hb e => ?_⟩
    obtain ⟨t, ht, rfl⟩ := List.mem_map.mp ha
    rw [List.map_cons, List.map_nil, List.mem_singleton] at hb
    exact ((ctR_mem hn _ t).mp ht).2 (e.trans hb)
  · exact hn
theorem ctG_eq {kv kv' : KV} (hn : ctN kv) (hn' : ctN kv') {nm : List Int} (h : ∀ z : Int, (nm, z) ∈ kv ↔ (nm, z) ∈ kv') : ctG kv nm = ctG kv' nm := by
  rcases ctF_or kv nm with ⟨-, h2⟩ | ⟨k, t, -, h2, h3⟩
  · rw [ctG_no h2, ctG_no (fun t ht e => h2 t (by have := (h t.2).mpr (by rw [← e]; exact ht); rw [← e] at this; exact this) e)]
  · subst h3
    rw [(ctG_at hn h2).1]
    have h4 := (h t.2).mp (List.mem_of_getElem? h2)
    obtain ⟨j, hj⟩ := List.getElem?_of_mem h4
    exact (ctG_at hn' hj).1.symm
theorem ctG_A {kv : KV} (hn : ctN kv) (s nm : List Int) : ctG (ctA kv s) nm = if isNm (s.take (eqi s)) = true ∧ ctV s ≠ -1 ∧ s.take (eqi s) = nm then ctV s else ctG kv nm := by
  have hA := ctA_N hn s
  by_cases hg : isNm (s.take (eqi s)) = true ∧ ctV s ≠ -1
  · have e1 : ctA kv s = ctR kv (s.take (eqi s)) ++ [(s.take (eqi s), ctV s)] := by rw [ctA, if_pos hg]
    by_cases he : s.take (eqi s) = nm
    · rw [if_pos ⟨hg.1, hg.2, he⟩]
      have h1 : (nm, ctV s) ∈ ctA kv s := by rw [e1, he]; simp
      obtain ⟨j, hj⟩ := List.getElem?_of_mem h1
      exact (ctG_at hA hj).1
    · rw [if_neg (fun z => he z.2.2)]
      refine ctG_eq hA hn (fun z => ?_)
      rw [e1, List.mem_append, ctR_mem hn]
      constructor
      · rintro (h | h)
        · exact h.1
        · rw [List.mem_singleton] at h; exact absurd (congrArg Prod.fst h).symm he
      · intro h
        exact Or.inl ⟨h, fun e => he e.symm⟩
  · rw [if_neg (fun z => hg ⟨z.1, z.2.1⟩), ctA, if_neg hg]
def sw (z : Int) : Int := if z = -2 then -1 else if z = -1 then -2 else z
theorem ctV_rg (s : List Int) : -2 ≤ ctV s ∧ ctV s < 1000000 := by
  unfold ctV
  have := numOf_rg (s.drop (eqi s + 1))
  split <;> omega
theorem sw_one (nm s : List Int) (f : Int) : sw (wOne nm f s) = if isNm (s.take (eqi s)) = true ∧ ctV s ≠ -1 ∧ s.take (eqi s) = nm then ctV s else sw f := by
  unfold wOne ctV
  have hr := numOf_rg (s.drop (eqi s + 1))
  by_cases h1 : isW nm s
  · rw [if_pos h1]
    by_cases h2 : eqi s = s.length
    · rw [if_pos h2, if_pos h2, if_pos ⟨h1.1, by omega, h1.2⟩]; rfl
    · rw [if_neg h2, if_neg h2]
      by_cases h3 : 0 ≤ numOf (s.drop (eqi s + 1))
      · rw [if_pos h3, if_pos ⟨h1.1, by omega, h1.2⟩, sw, if_neg (by omega), if_neg (by omega)]
      · rw [if_neg h3, if_neg (fun z => z.2.1 (by omega))]
  · rw [if_neg h1, if_neg (fun z => h1 ⟨z.1, z.2.2⟩)]
/-! small letters through lists -/
theorem smI_44 {c : Int} : smI c = 44 ↔ c = 44 := by unfold smI; split <;> omega
theorem smI_32 {c : Int} : smI c = 32 ↔ c = 32 := by unfold smI; split <;> omega
theorem spl_sm : ∀ (v : List Int), spl (v.map smI) = (spl v).map (fun x => x.map smI)
  | [] => rfl
  | c :: v => by
    rw [List.map_cons, spl, spl, spl_sm v]
    by_cases h : c = 44
    · rw [if_pos h, if_pos (smI_44.mpr h)]; rfl
    · rw [if_neg h, if_neg (fun z => h (smI_44.mp z))]
      cases spl v with
      | nil => rfl
      | cons y ys => rfl
theorem trL_sm : ∀ (v : List Int), trL (v.map smI) = (trL v).map smI
  | [] => rfl
  | c :: v => by
    have ih := trL_sm v
    unfold trL at ih ⊢
    rw [List.map_cons, List.dropWhile_cons, List.dropWhile_cons]
    by_cases h : c = 32
    · rw [if_pos (by simpa using smI_32.mpr h), if_pos (by simpa using h)]; exact ih
    · rw [if_neg (by simpa using fun z => h (smI_32.mp z)), if_neg (by simpa using h)]; rfl
theorem trim_sm (v : List Int) : trim (v.map smI) = (trim v).map smI := by
  unfold trim
  rw [trL_sm, ← List.map_reverse, trL_sm, ← List.map_reverse]
theorem lst_sm (v : List Int) : lst (v.map smI) = (lst v).map (fun x => x.map smI) := by
  unfold lst
  rw [spl_sm, List.map_map]
  induction spl v with
  | nil => rfl
  | cons y ys ih =>
    rw [List.map_cons, List.map_cons]
    have e : (trim ∘ fun x => List.map smI x) y = (trim y).map smI := trim_sm y
    rw [e]
    by_cases h : trim y = []
    · rw [h]; simpa using ih
    · have h2 : (trim y).map smI ≠ [] := fun z => h (List.map_eq_nil_iff.mp z)
      rw [List.filter_cons_of_pos (by simpa using h2), List.filter_cons_of_pos (by simpa using h), List.map_cons, ih]
theorem ctL_fold (nm : List Int) : ∀ (L : List (List Int)) (kv : KV) (f : Int), ctN kv → ctG kv nm = sw f → ctN ((L.map (fun x => x.map smI)).foldl ctA kv) ∧ ctG ((L.map (fun x => x.map smI)).foldl ctA kv) nm = sw (L.foldl (wStep nm) f)
  | [], kv, f, hn, h => ⟨hn, h⟩
  | x :: L, kv, f, hn, h => by
    rw [List.map_cons, List.foldl_cons, List.foldl_cons]
    refine ctL_fold nm L _ _ (ctA_N hn _) ?_
    rw [ctG_A hn, wStep, sw_one, h]
theorem ctL_ok (v : Option (List Int)) (nm : List Int) : ctN (ctL v) ∧ ctG (ctL v) nm = sw (wrd v nm) := by
  cases v with
  | none => exact ⟨List.nodup_nil, rfl⟩
  | some x =>
    rw [ctL, wrd, lst_sm]
    exact ctL_fold nm (lst x) [] (-2) List.nodup_nil rfl
theorem ctA_v {kv : KV} (h : ∀ t ∈ kv, t.2 ≠ -1 ∧ -2 ≤ t.2 ∧ t.2 < 1000000) (s : List Int) : ∀ t ∈ ctA kv s, t.2 ≠ -1 ∧ -2 ≤ t.2 ∧ t.2 < 1000000 := by
  intro t ht
  unfold ctA at ht
  split at ht
  · rename_i hg
    rcases List.mem_append.mp ht with z | z
    · unfold ctR at z
      split at z
      · exact h t z
      · exact h t (rmi_mem z)
    · rw [List.mem_singleton.mp z]
      exact ⟨hg.2, ctV_rg s⟩
  · exact h t ht
theorem ctf_v : ∀ (L : List (List Int)) (kv : KV), (∀ t ∈ kv, t.2 ≠ -1 ∧ -2 ≤ t.2 ∧ t.2 < 1000000) → ∀ t ∈ L.foldl ctA kv, t.2 ≠ -1 ∧ -2 ≤ t.2 ∧ t.2 < 1000000
  | [], kv, h => h
  | x :: L, kv, h => ctf_v L _ (ctA_v h x)
theorem ctL_v (v : Option (List Int)) : ∀ t ∈ ctL v, t.2 ≠ -1 ∧ -2 ≤ t.2 ∧ t.2 < 1000000 := by
  cases v with
  | none => intro t ht; cases ht
  | some x => exact ctf_v _ [] (fun t ht => by cases ht)
theorem sw_no {z : Int} : sw z = -1 ↔ z = -2 := by unfold sw; split <;> (try split) <;> omega
theorem ctL_F (v : Option (List Int)) (nm : List Int) : (ctF (ctL v) nm = -1) ↔ wrd v nm = -2 := by
  have h := (ctL_ok v nm).2
  have hn := (ctL_ok v nm).1
  rw [← sw_no, ← h]
  rcases ctF_or (ctL v) nm with ⟨h1, h2⟩ | ⟨k, t, h1, h2, h3⟩
  · rw [h1, ctG_no h2]
  · rw [h1]
    subst h3
    rw [(ctG_at hn h2).1]
    have := (ctL_v v t (List.mem_of_getElem? h2)).1
    constructor
    · intro z; omega
    · intro z; exact absurd z this
theorem ctL_has (v : Option (List Int)) (nm : List Int) : decide (ctF (ctL v) nm ≠ -1) = hasW v nm := by
  unfold hasW
  have := ctL_F v nm
  by_cases h : ctF (ctL v) nm = -1
  · rw [decide_eq_false (fun z : ctF (ctL v) nm ≠ -1 => z h), decide_eq_false (fun z : wrd v nm ≠ -2 => z (this.mp h))]
  · rw [decide_eq_true h, decide_eq_true (show wrd v nm ≠ -2 from fun z => h (this.mpr z))]
theorem ctA_len (kv : KV) (s : List Int) : (ctA kv s).length ≤ kv.length + 1 := by
  unfold ctA
  split
  · rw [List.length_append, List.length_singleton]
    unfold ctR
    split
    · exact Nat.le_refl _
    · unfold rmi; rw [List.length_append, List.length_take, List.length_drop]; omega
  · omega
theorem ixo_eqi (s : List Int) : ixo s 61 = if eqi s < s.length then (eqi s : Int) else -1 := by
  have h : nxt s 61 0 s.length = eqi s := by unfold nxt eqi; rw [sl_all, Nat.zero_add]
  unfold ixo
  rw [h]
/-! lists of strings, of numbers, over any zone -/
def NB (G : zE) (Q : Nat → Prop) (H : Heap) (rs : List Nat) (xs : List (List Int)) : Prop := rs.length = xs.length ∧ ∀ (i r : Nat) (x : List Int), rs[i]? = some r → xs[i]? = some x → St G Q H r x
def UB (G : zE) (Q : Nat → Prop) (H : Heap) (rs : List Nat) (xs : List Int) : Prop := rs.length = xs.length ∧ ∀ (i r : Nat) (x : Int), rs[i]? = some r → xs[i]? = some x → Nu G Q H r x
theorem NB.kp {G : zE} {Q Q' : Nat → Prop} {H H1 : Heap} {rs : List Nat} {xs : List (List Int)} (h : NB G Q H rs xs) (hk : Kp Q H Q' H1) : NB G Q' H1 rs xs := ⟨h.1, fun i r x h1 h2 => (h.2 i r x h1 h2).kp hk⟩
theorem UB.kp {G : zE} {Q Q' : Nat → Prop} {H H1 : Heap} {rs : List Nat} {xs : List Int} (h : UB G Q H rs xs) (hk : Kp Q H Q' H1) : UB G Q' H1 rs xs := ⟨h.1, fun i r x h1 h2 => (h.2 i r x h1 h2).kp hk⟩
theorem NB.nil {G : zE} {Q : Nat → Prop} {H : Heap} : NB G Q H [] [] := ⟨rfl, fun i r x h => by simp at h⟩
theorem UB.nil {G : zE} {Q : Nat → Prop} {H : Heap} : UB G Q H [] [] := ⟨rfl, fun i r x h => by simp at h⟩
theorem NB.el {G : zE} {Q : Nat → Prop} {H : Heap} {rs : List Nat} {xs : List (List Int)} (h : NB G Q H rs xs) : ∀ y, y ∈ rs → El G H y := fun y hy => by
  obtain ⟨i, hi, rfl⟩ := List.mem_iff_getElem.mp hy
  exact El.st (h.2 i _ _ (List.getElem?_eq_getElem hi) (List.getElem?_eq_getElem (by rw [← h.1]; exact hi)))
theorem UB.el {G : zE} {Q : Nat → Prop} {H : Heap} {rs : List Nat} {xs : List Int} (h : UB G Q H rs xs) : ∀ y, y ∈ rs → El G H y := fun y hy => by
  obtain ⟨i, hi, rfl⟩ := List.mem_iff_getElem.mp hy
  exact El.nu (h.2 i _ _ (List.getElem?_eq_getElem hi) (List.getElem?_eq_getElem (by rw [← h.1]; exact hi)))
theorem snoc_get {A B : Type} {rs : List A} {xs : List B} {a : A} {b : B} {i : Nat} {r : A} {x : B} (hl : rs.length = xs.length) (h1 : (rs ++ [a])[i]? = some r) (h2 : (xs ++ [b])[i]? = some x) : (rs[i]? = some r ∧ xs[i]? = some x) ∨ (r = a ∧ x = b) := by
  by_cases hi : i < rs.length
  · rw [List.getElem?_append_left hi] at h1
    rw [List.getElem?_append_left (by omega)] at h2
    exact Or.inl ⟨h1, h2⟩
  · rw [List.getElem?_append_right (by omega)] at h1
    rw [List.getElem?_append_right (by omega)] at h2
    have h3 : i - rs.length = 0 := by have := (List.getElem?_eq_some_iff.mp h1).1; simp at this; omega
    rw [h3] at h1
    rw [← hl, h3] at h2
    cases h1; cases h2
    exact Or.inr ⟨rfl, rfl⟩
theorem rmi_get2 {A B : Type} {rs : List A} {xs : List B} {k i : Nat} {r : A} {x : B} (hl : rs.length = xs.length) (h1 : (rmi rs k)[i]? = some r) (h2 : (rmi xs k)[i]? = some x) : ∃ j : Nat, rs[j]? = some r ∧ xs[j]? = some x := by
  rw [rmi_get] at h1 h2
  rw [← hl] at h2
  split at h1
  · rename_i h; rw [if_pos h] at h2; exact ⟨i, h1, h2⟩
  · rename_i h; rw [if_neg h] at h2; exact ⟨_, h1, h2⟩
theorem rmi_len2 {A B : Type} {rs : List A} {xs : List B} {k : Nat} (hl : rs.length = xs.length) : (rmi rs k).length = (rmi xs k).length := by
  unfold rmi; rw [List.length_append, List.length_append, List.length_take, List.length_take, List.length_drop, List.length_drop, hl]
theorem NB.snoc {G : zE} {Q : Nat → Prop} {H : Heap} {rs : List Nat} {xs : List (List Int)} {r : Nat} {x : List Int} (h : NB G Q H rs xs) (hx : St G Q H r x) : NB G Q H (rs ++ [r]) (xs ++ [x]) := ⟨by rw [List.length_append, List.length_append, h.1]; rfl, fun i a b h1 h2 => by
  rcases snoc_get h.1 h1 h2 with z | ⟨z1, z2⟩
  · exact h.2 i a b z.1 z.2
  · rw [z1, z2]; exact hx⟩
theorem UB.snoc {G : zE} {Q : Nat → Prop} {H : Heap} {rs : List Nat} {xs : List Int} {r : Nat} {x : Int} (h : UB G Q H rs xs) (hx : Nu G Q H r x) : UB G Q H (rs ++ [r]) (xs ++ [x]) := ⟨by rw [List.length_append, List.length_append, h.1]; rfl, fun i a b h1 h2 => by
  rcases snoc_get h.1 h1 h2 with z | ⟨z1, z2⟩
  · exact h.2 i a b z.1 z.2
  · rw [z1, z2]; exact hx⟩
theorem NB.rm {G : zE} {Q : Nat → Prop} {H : Heap} {rs : List Nat} {xs : List (List Int)} (h : NB G Q H rs xs) (k : Nat) : NB G Q H (rmi rs k) (rmi xs k) := ⟨rmi_len2 h.1, fun i r x h1 h2 => by
  obtain ⟨j, h3, h4⟩ := rmi_get2 h.1 h1 h2
  exact h.2 j r x h3 h4⟩
theorem UB.rm {G : zE} {Q : Nat → Prop} {H : Heap} {rs : List Nat} {xs : List Int} (h : UB G Q H rs xs) (k : Nat) : UB G Q H (rmi rs k) (rmi xs k) := ⟨rmi_len2 h.1, fun i r x h1 h2 => by
  obtain ⟨j, h3, h4⟩ := rmi_get2 h.1 h1 h2
  exact h.2 j r x h3 h4⟩
/-- a list of numbers -/
def US (G : zE) (P : Nat → Prop) (H : Heap) (a : Nat) (vs : List Int) : Prop := ∃ (ed : Nat) (rs : List Nat) (cap : Nat) (mz : Int), P a ∧ Ob G H a 8 [.int (iI mz), .ref ed, .int (iI (rs.length : Int))] ∧ EDok G H ed rs cap ∧ (ed = e0 G ∨ P ed) ∧ cap ≤ 100000 ∧ UB G P H rs vs
theorem US.kp {G : zE} {P P' : Nat → Prop} {H H' : Heap} {a : Nat} {vs : List Int} (hz : zOK G) (h : US G P H a vs) (hk : Kp P H P' H') : US G P' H' a vs := by
  obtain ⟨ed, rs, cap, mz, h1, h2, h3, h4, h5, h6⟩ := h
  have h7 := h3.kp hz h4 hk
  exact ⟨ed, rs, cap, mz, (hk a h2.lt h1).1, h2.kp h1 hk, h7.1, h7.2, h5, h6.kp hk⟩
/-- a Control: its words -/
def Ct (G : zE) (P : Nat → Prop) (H : Heap) (c : Nat) (kv : KV) : Prop := P c ∧ ∃ nl ul : Nat, Ob G H c 2 [.ref nl, .ref ul] ∧ LSt G P H nl (kv.map (fun q => q.1)) ∧ US G P H ul (kv.map (fun q => q.2)) ∧ kv.length ≤ 30000
theorem Ct.kp {G : zE} {P P' : Nat → Prop} {H H' : Heap} {c : Nat} {kv : KV} (hz : zOK G) (h : Ct G P H c kv) (hk : Kp P H P' H') : Ct G P' H' c kv := by
  obtain ⟨h1, nl, ul, h2, h3, h4, h5⟩ := h
  exact ⟨(hk c h2.lt h1).1, nl, ul, h2.kp h1 hk, h3.kp hz hk, h4.kp hz hk, h5⟩
theorem Ct.ext {G : zE} {P : Nat → Prop} {H H' : Heap} {c : Nat} {kv : KV} (hz : zOK G) (h : Ct G P H c kv) (e : Ext H H') : Ct G P H' c kv := h.kp hz (Kp.ext e)
theorem ctF_rg (kv : KV) (nm : List Int) (h : kv.length ≤ 30000) : -1 ≤ ctF kv nm ∧ ctF kv nm ≤ 30000 := by
  have := fix1_rg (fun q => decide (q.1 = nm)) kv 0
  unfold ctF
  omega
/-- the cells of a Control's lists -/
abbrev MU (G : zE) (nl ul ed1 ed2 : Nat) : Nat → Prop := fun q => q = nl ∨ q = ul ∨ (G.2.heap.size ≤ q ∧ (q = ed1 ∨ q = ed2))
abbrev QC (G : zE) (P : Nat → Prop) (nl ul ed1 ed2 : Nat) : Nat → Prop := fun q => P q ∧ ¬ MU G nl ul ed1 ed2 q
def CB (G : zE) (P : Nat → Prop) (H : Heap) (c nl ul ed1 ed2 cap1 cap2 : Nat) (m1 m2 : Int) (rs1 rs2 : List Nat) (kv : KV) : Prop := Ob G H c 2 [.ref nl, .ref ul] ∧ Ob G H nl 8 [.int (iI m1), .ref ed1, .int (iI (rs1.length : Int))] ∧ EDok G H ed1 rs1 cap1 ∧ Ob G H ul 8 [.int (iI m2), .ref ed2, .int (iI (rs2.length : Int))] ∧ EDok G H ed2 rs2 cap2 ∧ NB G (QC G P nl ul ed1 ed2) H rs1 (kv.map (fun q => q.1)) ∧ UB G (QC G P nl ul ed1 ed2) H rs2 (kv.map (fun q => q.2))
theorem QC.kpA {G : zE} {P : Nat → Prop} {H H1 : Heap} {nl ul ed1 ed2 d1 : Nat} {R : Prop} (hk : ∀ q : Nat, q < H.size → ¬ (H.size ≤ q ∨ q = nl ∨ (G.2.heap.size ≤ q ∧ q = ed1)) → H1[q]? = H[q]?) (hd : (d1 = ed1 ∧ R) ∨ H.size ≤ d1) : Kp (QC G P nl ul ed1 ed2) H (QC G P nl ul d1 ed2) H1 := fun q hq hp => ⟨⟨hp.1, fun z => hp.2 (by
    rcases z with z | z | ⟨zb, z | z⟩
    · exact Or.inl z
    · exact Or.inr (Or.inl z)
    · rcases hd with e | e
      · exact Or.inr (Or.inr ⟨zb, Or.inl (z.trans e.1)⟩)
      · omega
    · exact Or.inr (Or.inr ⟨zb, Or.inr z⟩))⟩, hk q hq (by
    rintro (z | z | z)
    · omega
    · exact hp.2 (Or.inl z)
    · exact hp.2 (Or.inr (Or.inr ⟨z.1, Or.inl z.2⟩)))⟩
theorem QC.kpB {G : zE} {P : Nat → Prop} {H H1 : Heap} {nl ul ed1 ed2 d2 : Nat} {R : Prop} (hk : ∀ q : Nat, q < H.size → ¬ (H.size ≤ q ∨ q = ul ∨ (G.2.heap.size ≤ q ∧ q = ed2)) → H1[q]? = H[q]?) (hd : (d2 = ed2 ∧ R) ∨ H.size ≤ d2) : Kp (QC G P nl ul ed1 ed2) H (QC G P nl ul ed1 d2) H1 := fun q hq hp => ⟨⟨hp.1, fun z => hp.2 (by
    rcases z with z | z | ⟨zb, z | z⟩
    · exact Or.inl z
    · exact Or.inr (Or.inl z)
    · exact Or.inr (Or.inr ⟨zb, Or.inl z⟩)
    · rcases hd with e | e
      · exact Or.inr (Or.inr ⟨zb, Or.inr (z.trans e.1)⟩)
      · omega)⟩, hk q hq (by
    rintro (z | z | z)
    · omega
    · exact hp.2 (Or.inr (Or.inl z))
    · exact hp.2 (Or.inr (Or.inr ⟨z.1, Or.inr z.2⟩)))⟩
/-- the other list's cells stay -/
theorem kq_ne {G : zE} {H H1 : Heap} {a ed b : Nat} (hk : ∀ q : Nat, q < H.size → ¬ (H.size ≤ q ∨ q = a ∨ (G.2.heap.size ≤ q ∧ q = ed)) → H1[q]? = H[q]?) (hl : b < H.size) (h1 : b ≠ a) (h2 : G.2.heap.size ≤ b → b ≠ ed) : H1[b]? = H[b]? := hk b hl (by
  rintro (z | z | z)
  · omega
  · exact h1 z
  · exact h2 z.1 z.2)
