/-! ===== keep of the component: pure links, the heap behind tell ===== -/
theorem kVy_eq (T : Txt) : kVy T = lst (((vof T nVary).getD []).map smI) := by
  unfold kVy
  cases vof T nVary <;> rfl
theorem star_eq (vs : List (List Int)) : decide (0 ≤ fix1 (fun x => decide ([42] = x)) vs 0) = star vs := by
  unfold star
  rcases fix1_or (fun x : List Int => decide ([42] = x)) vs 0 with ⟨h1, h2⟩ | ⟨k, u, h1, h2, h3, -⟩
  · rw [h1]
    refine (List.any_eq_false.mpr (fun x hx hd => ?_)).symm
    have := h2 x hx
    rw [of_decide_eq_true hd] at this
    exact absurd this (by decide)
  · rw [h1, decide_eq_true (by omega)]
    refine (List.any_eq_true.mpr ⟨u, List.mem_of_getElem? h2, ?_⟩).symm
    exact decide_eq_true (of_decide_eq_true h3).symm
theorem getD_app {us vs : List Nat} {f : Nat} (h : f < us.length) : (us ++ vs).getD f 0 = us.getD f 0 := by
  rw [List.getD_eq_getElem?_getD, List.getD_eq_getElem?_getD, List.getElem?_append_left h]
theorem lst1_app (us : List Nat) (u : Nat) (hu : ∀ w ∈ us, w ≤ u) : ∀ (ts : List Nat) (i f : Nat), f < us.length → i + ts.length ≤ us.length → lst1 (us ++ [u]) (ts ++ [u]) i f = lst1 us ts i f ∧ lst1 us ts i f < us.length
  | [], i, f, hf, hi => by
    rw [List.nil_append, lst1, lst1, lst1, getD_app hf]
    have : us.getD f 0 ≤ u := by
      rw [List.getD_eq_getElem?_getD, List.getElem?_eq_getElem hf]
      exact hu _ (List.getElem_mem hf)
    rw [if_neg (by omega)]
    exact ⟨rfl, hf⟩
  | t :: ts, i, f, hf, hi => by
    rw [List.length_cons] at hi
    rw [List.cons_append, lst1, lst1, getD_app hf]
    exact lst1_app us u hu ts (i + 1) _ (by split <;> omega) (by omega)
theorem rmi_app {A : Type} {xs ys : List A} {i : Nat} (h : i < xs.length) : rmi (xs ++ ys) i = rmi xs i ++ ys := by
  unfold rmi
  rw [List.take_append_of_le_length (by omega), List.drop_append_of_le_length (by omega), List.append_assoc]
theorem kTs3_lt {g : Sg} {p : Int} (h : (kTs1 g p).length < 24) : kTs3 g p = kTs1 g p ++ [useT (kTh g p) (gUse g + 1)] := by
  unfold kTs3
  rw [if_neg (by unfold kTs2; rw [List.length_append, List.length_singleton]; omega)]
  rfl
/-- the place of the oldest -/
abbrev oldI (ts : List Th) : Nat := lst1 (ts.map tUsed) ((ts.map tUsed).drop 1) 1 0
theorem kTs3_eq {g : Sg} {p : Int} (h : (kTs1 g p).length = 24) (hu : ∀ t ∈ kTs1 g p, tUsed t ≤ gUse g) : oldI (kTs1 g p) < 24 ∧ kTs3 g p = rmi (kTs1 g p) (oldI (kTs1 g p)) ++ [useT (kTh g p) (gUse g + 1)] := by
  have key := lst1_app ((kTs1 g p).map tUsed) (gUse g + 1) (fun w hw => by
    obtain ⟨t, ht, rfl⟩ := List.mem_map.mp hw
    exact Nat.le_succ_of_le (hu t ht)) (((kTs1 g p).map tUsed).drop 1) 1 0 (by rw [List.length_map]; omega) (by rw [List.length_drop, List.length_map]; omega)
  rw [List.length_map, h] at key
  refine ⟨key.2, ?_⟩
  have e1 : (kTs2 g p).map tUsed = (kTs1 g p).map tUsed ++ [gUse g + 1] := by unfold kTs2; rw [List.map_append]; rfl
  have e2 : ((kTs1 g p).map tUsed ++ [gUse g + 1]).drop 1 = ((kTs1 g p).map tUsed).drop 1 ++ [gUse g + 1] := List.drop_append_of_le_length (by rw [List.length_map]; omega)
  unfold kTs3
  rw [if_pos (by unfold kTs2; rw [List.length_append, List.length_singleton]; omega), e1, e2, key.1]
  unfold kTs2
  exact rmi_app (by rw [h]; exact key.2)
theorem kTs1_mem {g : Sg} {p : Int} {t : Th} (h : t ∈ kTs1 g p) : t ∈ gTs g := by
  unfold kTs1 at h
  split at h
  · exact h
  · exact rmi_mem h
/-- the request, the wish, the things, the new thing's parts -/
def RB (G : zE) (Z : Nat → Prop) (H : Heap) (rq wi e v w co : Nat) (rs as : List Nat) (M : Txt) (c : List Bool) (wv : KV) (ts : List Th) (t : Th) : Prop := HR G Z H rq rs M c ∧ Ct G Z H wi wv ∧ CTs G (fun q => Z q ∧ q ≠ v ∧ q ≠ w) H as ts ∧ St G Z H e (tEtag t) ∧ LSt G Z H v (tVary t) ∧ LSt G Z H w ((tVals t).map lsO) ∧ Ct G Z H co (ctL (tCc t))
section RB
variable {G : zE} {U : State} {Z Z' : Nat → Prop} {H H1 : Heap} {rq wi e v w co : Nat} {rs as : List Nat} {M : Txt} {c : List Bool} {wv : KV} {ts : List Th} {t : Th}
theorem RB.kp (hz : zOK G) (h : RB G Z H rq wi e v w co rs as M c wv ts t) (hk : Kp Z H Z' H1) (hr : ∀ r ∈ rs, H1[r]? = H[r]?) (ha : ∀ a ∈ as, H1[a]? = H[a]?) : RB G Z' H1 rq wi e v w co rs as M c wv ts t := by
  obtain ⟨h1, h2, h3, h4, h5, h6, h7⟩ := h
  exact ⟨h1.kp hz hk hr, h2.kp hz hk, h3.kp hz (fun q a b => ⟨⟨(hk q a b.1).1, b.2⟩, (hk q a b.1).2⟩) ha, h4.kp hk, h5.kp hz hk, h6.kp hz hk, h7.kp hz hk⟩
theorem RB.ext (hz : zOK G) (h : RB G Z H rq wi e v w co rs as M c wv ts t) (he : Ext H H1) : RB G Z H1 rq wi e v w co rs as M c wv ts t := h.kp hz (Kp.ext he) (fun r hr => he.2 r (h.1.rcl r hr).lt) (fun a ha => by obtain ⟨t, ht⟩ := h.2.2.1.get ha; exact he.2 a ht.lt)
theorem RB.weak (hz : zOK G) (h : RB G Z H rq wi e v w co rs as M c wv ts t) (hw : ∀ q, Z q → Z' q) : RB G Z' H rq wi e v w co rs as M c wv ts t := h.kp hz (Kp.weak (fun q _ z => hw q z)) (fun _ _ => rfl) (fun _ _ => rfl)
theorem RB.things (hz : zOK G) (h : RB G Z H rq wi e v w co rs as M c wv ts t) : CTs G Z H as ts := h.2.2.1.weak hz (fun q z => z.1)
theorem RB.rm (h : RB G Z H rq wi e v w co rs as M c wv ts t) (j : Nat) : RB G Z H rq wi e v w co rs (rmi as j) M c wv (rmi ts j) t := ⟨h.1, h.2.1, h.2.2.1.rm j, h.2.2.2⟩
/-- over a call of a list's method on th -/
theorem RB.kl {x tp th ed : Nat} {as0 ds : List Nat} {cap : Nat} (hK : KK G U) (h : RB G (PC G x tp th ed as0 rs) H rq wi e v w co rs as M c wv ts t) (hth : Cl G H th 8) (hed : EDok G H ed ds cap) (hrb : ∀ r ∈ rs, G.2.heap.size ≤ r) (hab : ∀ a ∈ as, G.2.heap.size ≤ a) (hk : ∀ q : Nat, q < H.size → ¬ (H.size ≤ q ∨ q = th ∨ (G.2.heap.size ≤ q ∧ q = ed)) → H1[q]? = H[q]?) : RB G (PC G x tp th ed as0 rs) H1 rq wi e v w co rs as M c wv ts t :=
  h.kp hK.1 (PC.kl hk) (fun r hr => kq_ne hk (h.1.rcl r hr).lt ((h.1.rcl r hr).ne hth hK rfl) (fun _ => (hed.ne hK (h.1.rcl r hr) (hrb r hr) rfl).symm)) (fun a ha => by
    obtain ⟨t, ht⟩ := h.2.2.1.get ha
    exact kq_ne hk ht.lt (ht.cl.ne hth hK rfl) (fun _ => (hed.ne hK ht.cl (hab a ha) rfl).symm))
end RB
theorem lsO_kVs {M : Txt} (R : Txt) (hM : M = mrg R) (vs : List (List Int)) : vs.map (fun v => lsO (hdV M v)) = (kVs R vs).map lsO := by
  unfold kVs
  rw [List.map_map]
  refine List.map_congr_left (fun v _ => ?_)
  show lsO (hdV M v) = lsO (vof R v)
  rw [hM, (mrg_ok R v).2]
theorem etg_getD (T : Txt) : (etg T).getD [] = (vof T nEtag).getD [] := by
  unfold etg
  cases vof T nEtag with
  | none => rfl
  | some v => cases v <;> rfl
theorem etg_len (T : Txt) : ((etg T).getD []).length = 0 ↔ etg T = none := by
  cases h : etg T with
  | none => exact ⟨fun _ => rfl, fun _ => rfl⟩
  | some y =>
    refine ⟨fun z => ?_, fun z => by cases z⟩
    exact absurd (List.eq_nil_of_length_eq_zero z) (etg_of h).2
