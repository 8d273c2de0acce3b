/-! ===== the component: Headers.add ===== -/
set_option maxHeartbeats 4000000 in
set_option maxRecDepth 100000 in
theorem m_X2_add (G : zE) (l : Launch) (H0 : Heap) (P : Nat → Prop) (h L ed cap yn yv : Nat) (mz : Int) (rs : List Nat) (T : Txt) (cs : List Bool) (nm v : List Int) (hB : Bh G H0) (hbd : G.2.heap.size ≤ h ∧ G.2.heap.size ≤ L) (hrb : ∀ r ∈ rs, G.2.heap.size ≤ r) (hnd : rs.Nodup) (hh : Ob G H0 h 1 [.ref L]) (hL : Ob G H0 L 8 [.int (iI mz), .ref ed, .int (iI (rs.length : Int))]) (hed : EDok G H0 ed rs cap) (hN : LnB G (HQ G P L ed rs) H0 rs T cs) (hPn : ∀ q, H0.size ≤ q → P q) (hyn : St G (HQ G P L ed rs) H0 yn nm) (hyv : St G (HQ G P L ed rs) H0 yv v) (hn : T.length ≤ 20000 ∧ cap ≤ 40000 ∧ v.length ≤ 10000 ∧ ∀ t ∈ T, t.2.length ≤ 10000) {mc ms : Nat} (hmc : 5 ≤ mc) (hms : 4 * oL (hdV T nm) + 2 * v.length + 80 + (if cap < (addL T nm v).length then gr cap else 0) ≤ ms) : zV G l yX2_add (ws_ yX2_add cX2_add 4 (none)) 16 361 mc ms [.ref h, .ref yn, .ref yv] H0 (fun H1 => ∃ (d : Nat) (rs' : List Nat) (cs' : List Bool) (mz' : Int), Ob G H1 h 1 [.ref L] ∧ Ob G H1 L 8 [.int (iI mz'), .ref d, .int (iI (rs'.length : Int))] ∧ EDok G H1 d rs' (if cap < (addL T nm v).length then gr cap else cap) ∧ LnB G (HQ G P L d rs') H1 rs' (addL T nm v) cs' ∧ rs'.Nodup ∧ (d = ed ∨ H0.size ≤ d) ∧ (∀ r ∈ rs', r ∈ rs ∨ H0.size ≤ r)) (fun q => H0.size ≤ q ∨ HM G L ed rs q) := by
  refine zV.start (cc := cX2_add) (by decide) (Nat.le_of_ble_eq_true rfl) ?_
  intro p e s m args below meth c Q cx hQ hmn ls hl
  have hx := cx.1
  have hb := cx.2.1
  have hS : va_S (fun q => H0.size ≤ q ∨ HM G L ed rs q) H0 H0 [] := va_S.rf
  have hl : lv_has ls 4 [(0, .ref h), (1, .ref yn), (2, .ref yv)] := hl
  have hB9 := hB.1
  have hBA : ∀ q, (H0.size ≤ q ∨ HM G L ed rs q) → G.2.heap.size ≤ q := fun q z => by rcases z with z | z | z | z; omega; omega; exact z.1; exact hrb q z
  have hML : ∀ q, HM G L ed rs q → q < H0.size := fun q z => by
    rcases z with z | z | z
    · rw [z]; exact hL.lt
    · rw [z.2]; exact hed.edlt cx.kk.1 (z.2 ▸ z.1)
    · obtain ⟨t, cb, ht⟩ := hN.get z; exact ht.lt
  have toQ : ∀ q, H0.size ≤ q → HQ G P L ed rs q := fun q z => ⟨hPn q z, fun w => by have := hML q w; omega⟩
  have hlr := hN.1
  have hle := hed.le
  have hhl := hh.lt
  have hNz := hN.kp (Q' := fun q => HQ G P L ed rs q ∧ q < H0.size) (Kp.weak (fun q h1 h2 => ⟨h2, h1⟩)) (fun _ _ => rfl)
  have hyn := hyn.kp (P' := fun q => HQ G P L ed rs q ∧ q < H0.size) (Kp.weak (fun q h1 h2 => ⟨h2, h1⟩))
  have hyv := hyv.kp (P' := fun q => HQ G P L ed rs q ∧ q < H0.size) (Kp.weak (fun q h1 h2 => ⟨h2, h1⟩))
  have hnL : ∀ r ∈ rs, r ≠ L := fun r hr => by obtain ⟨t, cb, ht⟩ := hN.get hr; exact ht.cl.ne hL.cl cx.kk rfl
  have hnE : ∀ r ∈ rs, ed ≠ r := fun r hr => by obtain ⟨t, cb, ht⟩ := hN.get hr; exact hed.ne cx.kk ht.cl (hrb r hr) rfl
  have hrl : ∀ r ∈ rs, r < H0.size := fun r hr => hML r (Or.inr (Or.inr hr))
  have hhL : h ≠ L := hh.cl.ne hL.cl cx.kk rfl
  have hhE : ed ≠ h := hed.ne cx.kk hh.cl hbd.1 rfl
  refine lv_aload_n hx hb dX2_add_0 rfl (lv_at hl 0 rfl) ?_
  refine lv_aload_n hx hb dX2_add_1 rfl (lv_at hl 1 rfl) ?_
  refine z_callV cx (j := 1) (m_X2_line G l _ _ _ h L ed cap yn (.int (iI mz)) rs T cs nm hB hh hL hed hN (by omega) hyn (mc := 0) (ms := 0)) (lw_V q747 q749 qs10 q36 q750) (zrecv cx hh rfl) (by decide +kernel) rfl (rest := []) rfl hl (Nat.le_of_ble_eq_true rfl) (by decide) (by omega) dX2_add_2 hS (fun q h => Or.inl (Nat.le_trans hS.1 h)) (fun v2 H locs hp2 hz9 hk9 hS => ?_)
  have hE9 := Ext.of hz9 hk9 (fun q h => h)
  skip
  have hh := hh.ext hE9
  have hL := hL.ext hE9
  have hed := hed.ext hE9
  have hNz := hNz.ext hE9
  have hyn := hyn.ext hE9
  have hyv := hyv.ext hE9
  have hgs2 := hz9
  rcases hp2 with ⟨rfl, hF⟩ | ⟨k9, hF, hkl, rfl⟩
  · have hA9 : addL T nm v = T ++ [(nm, v)] := by rw [addL, if_pos hF]
    have hAl : (addL T nm v).length = T.length + 1 := by rw [hA9, List.length_append, List.length_singleton]
    have i1 : (rs.length = cap) = (cap < (addL T nm v).length) := propext ⟨fun h => by omega, fun h => by omega⟩
    obtain ⟨G1, hG1⟩ : ∃ G1, G1 = (if cap < (addL T nm v).length then gr cap else 0) := ⟨_, rfl⟩
    rw [← hG1] at hms
    refine lv_astore_nN (lv' := [(3, .null), (0, .ref h), (1, .ref yn), (2, .ref yv)]) hx hb dX2_add_5 rfl hl (by decide) rfl (fun ls hl => ?_)
    refine lv_aload_nN hx hb dX2_add_6 rfl (lv_at hl 0 rfl) ?_
    refine lv_ifnonnullN hx hb dX2_add_7 ?_
    refine lv_aload_n hx hb dX2_add_10 rfl (lv_at hl 1 rfl) ?_
    refine z_get cx (k0 := 0) hh rfl in_X2 (by decide) q110 rfl rfl dX2_add_11 ?_
    refine z_new cx (ci := 3) (vs := [.null, .null, .null]) hS rfl in_X6 tyX6_ok q753 q755 q59 (zdefX6) (by omega) dX2_add_14 (fun w H hw hgw Aw hz9 hE9 hS => ?_)
    have hh := hh.ext hE9
    have hL := hL.ext hE9
    have hed := hed.ext hE9
    refine lv_dup hx hb dX2_add_17 rfl ?_
    refine lv_aload_n hx hb dX2_add_18 rfl (lv_at hl 2 rfl) ?_
    refine lv_aload_n hx hb dX2_add_19 rfl (lv_at hl 3 rfl) ?_
    have hNz := hNz.ext hE9
    have hyn := hyn.ext hE9
    have hyv := hyv.ext hE9
    have hw0 : H0.size ≤ w := by omega
    have hh8 := hh
    have hL8 := hL
    have hed8 := hed
    refine z_callI cx (j := 2) (m_X6_init G l _ w yn yv Aw (mc := 0) (ms := 0)) (lw_meth q758) q59 q756 q757 rfl (by decide +kernel) rfl (rest := [.ref w, .ref L]) rfl hl (Nat.le_of_ble_eq_true rfl) (by decide) (by omega) dX2_add_20 hS (fun q h => by rcases h with h | h; exact Or.inl (Nat.le_trans hS.1 h); exact Or.inl (h ▸ hw0)) (fun H locs hp20 hz9 hk9 hS => ?_)
    have hw := hp20
    have kq : ∀ q : Nat, q < H0.size → H[q]? = _ := fun q hq => hk9 q (by have := hh8.lt; have := hS.1; omega) (by rintro (z | z) <;> omega)
    have hh := hh8.kept (kq h hhl)
    have hL := hL8.kept (kq L (hML L (Or.inl rfl)))
    have hed := hed8.kept (fun hl hb => kq ed (hML ed (Or.inr (Or.inl ⟨hb, rfl⟩))))
    have kp1 : Kp (fun q => HQ G P L ed rs q ∧ q < H0.size) _ (fun q => HQ G P L ed rs q ∧ q < H0.size) H := fun q h1 h2 => ⟨h2, kq q h2.2⟩
    have hNz := hNz.kp kp1 (fun r hr => kq r (hrl r hr))
    have hyn := hyn.kp kp1
    have hyv := hyv.kp kp1
    have hwl := hw.lt
    have hwL : w ≠ L := by have := hML L (Or.inl rfl); omega
    have hwE : w ≠ ed := (hed.ne cx.kk hw.cl (by omega) rfl).symm
    have hgs20 := hS.1
    have hh8 := hh
    have hw8 := hw
    refine z_callV cx (j := 1) (m_J2_add G l _ L ed cap w mz rs (hB.ofS hS hBA) hbd.2 hL hed (hNz.el cx.kk) (El.ob cx.kk hw rfl q1430) hn.2.1 (mc := 1) (ms := G1) (by split <;> omega) (by rw [hG1]; simp only [i1]; exact Nat.le_refl _)) (lw_V q772 q499 q500 q35 q501) (zrecv cx hL rfl) (by decide +kernel) rfl (rest := []) rfl hl (Nat.le_of_ble_eq_true rfl) (by decide) (by omega) dX2_add_23 hS (fun q h => by rcases h with h | h | h; exact Or.inl (Nat.le_trans hS.1 h); exact Or.inr (Or.inl h); exact Or.inr (Or.inr (Or.inl h))) (fun v23 H locs hp23 hz9 hk9 hS => ?_)
    obtain ⟨rfl, d, hd, hL, hed⟩ := hp23
    have hh := hh8.kept (kq_ne hk9 hh8.lt hhL (fun _ => hhE.symm))
    have hw := hw8.kept (kq_ne hk9 hw8.lt hwL (fun _ => hwE))
    simp only [i1] at hed
    have kp2 : Kp (fun q => HQ G P L ed rs q ∧ q < H0.size) _ (HQ G P L d (rs ++ [w])) H := fun q h1 h2 => ⟨⟨h2.1.1, fun z => by
      rcases z with z | z | z
      · exact h2.1.2 (Or.inl z)
      · rcases hd with e | e
        · exact h2.1.2 (Or.inr (Or.inl ⟨z.1, z.2.trans e.1⟩))
        · have := z.2; have := h2.2; omega
      · rcases List.mem_append.mp z with u | u
        · exact h2.1.2 (Or.inr (Or.inr u))
        · rw [List.mem_singleton.mp u] at h2; have := h2.2; omega⟩, kq_ne hk9 h1 (fun z => h2.1.2 (Or.inl z)) (fun hb z => h2.1.2 (Or.inr (Or.inl ⟨hb, z⟩)))⟩
    have hNz := hNz.kp kp2 (fun r hr => kq_ne hk9 (Nat.lt_of_lt_of_le (hrl r hr) hgs20) (hnL r hr) (fun _ => (hnE r hr).symm))
    have hN3 := hNz.snoc (r := w) (t := (nm, v)) (cb := false) ⟨yn, yv, none, hw, hyn.kp kp2, hyv.kp kp2, trivial, rfl⟩
    rw [← hA9] at hN3
    have e4 : rs.length + 1 = (rs ++ [w]).length := by rw [List.length_append, List.length_singleton]
    rw [e4] at hL
    refine lv_pop hx hb dX2_add_26 rfl ?_
    refine lv_goto (tgt := 35) hx hb dX2_add_27 (by decide) ?_
    exact z_vret cx hQ rfl (⟨d, rs ++ [w], _, _, hh, hL, hed, hN3, nd_snoc hnd (fun z => by have := hrl w z; omega), by rcases hd with e | e; exact Or.inl e.1; exact Or.inr (by omega), fun r hr => by rcases List.mem_append.mp hr with z | z; exact Or.inl z; rw [List.mem_singleton.mp z]; exact Or.inr hw0⟩) hS (by omega) dX2_add_35
  · obtain ⟨w9, hw9⟩ : ∃ w, rs[k9]? = some w := ⟨_, List.getElem?_eq_getElem hkl⟩
    have hwm := List.mem_of_getElem? hw9
    obtain ⟨t9, cb9, ht9, hc9, nm9, vl9, li9, hOw, hnm, hvl9, hli, hcb⟩ := hNz.at hw9
    have hgd : rs.getD k9 0 = w9 := by rw [List.getD_eq_getElem?_getD, hw9]; rfl
    have hwb := hrb w9 hwm
    have hV9 := hdV_k hF ht9
    have hln := hn.2.2.2 t9 (List.mem_of_getElem? ht9)
    have htn : t9.1 = nm := by
      rcases hdF_or T nm with ⟨g1, -⟩ | ⟨k, u, g1, g2, g3⟩
      · omega
      · have : k = k9 := by omega
        subst this
        rw [ht9] at g2; cases g2; exact g3
    have hA9 : addL T nm v = T.set k9 (nm, t9.2 ++ 44 :: v) := by rw [addL, if_neg (by omega), hF, Int.toNat_natCast, List.getD_eq_getElem?_getD, ht9]; rfl
    have hAl : ¬ cap < (addL T nm v).length := by rw [hA9, List.length_set]; omega
    rw [hV9, if_neg hAl] at hms
    have hms9 : 4 * t9.2.length + 2 * v.length + 80 ≤ ms := hms
    rw [hgd]
    refine lv_astore_n (lv' := [(3, .ref w9), (0, .ref h), (1, .ref yn), (2, .ref yv)]) hx hb dX2_add_5 rfl hl (by decide) rfl (fun ls hl => ?_)
    refine lv_aload_n hx hb dX2_add_6 rfl (lv_at hl 0 rfl) ?_
    refine lv_ifnonnull (tgt := 30) hx hb dX2_add_7 (by decide) ?_
    refine lv_aload_n hx hb dX2_add_30 rfl (lv_at hl 0 rfl) ?_
    refine lv_aload_n hx hb dX2_add_31 rfl (lv_at hl 3 rfl) ?_
    have hgs32 := hS.1
    have hh8 := hh
    have hL8 := hL
    have hed8 := hed
    have hwh : h ≠ w9 := hh.cl.ne hOw.cl cx.kk rfl
    refine z_callVv cx (j := 1) (m_X6_more G l _ _ _ w9 nm9 vl9 yv li9 t9.2 v (hB.ofS hS hBA) hwb hOw hvl9 hyv ⟨hln, hn.2.2.1⟩ (mc := 5) (ms := 4 * t9.2.length + 2 * v.length + 70) (Nat.le_refl _) (Nat.le_refl _)) (lw_V q773 q774 q775 q59 q776) (zrecv cx hOw rfl) (by decide +kernel) rfl (rest := []) rfl hl (Nat.le_of_ble_eq_true rfl) (by decide) (by omega) dX2_add_32 hS (fun q h => by rcases h with h | h; exact Or.inl (Nat.le_trans hS.1 h); exact Or.inr (Or.inr (Or.inr (h ▸ hwm)))) (fun H locs hp32 hz9 hk9 hS => ?_)
    obtain ⟨d, hOw, hd⟩ := hp32
    have kq : ∀ q : Nat, q < H0.size → q ≠ w9 → H[q]? = _ := fun q hq hne => hk9 q (by omega) (by rintro (z | z); omega; exact hne z)
    have hh := hh8.kept (kq h hhl hwh)
    have hL := hL8.kept (kq L (hML L (Or.inl rfl)) (hnL w9 hwm).symm)
    have hed := hed8.kept (fun hl hb => kq ed (hML ed (Or.inr (Or.inl ⟨hb, rfl⟩))) (hnE w9 hwm))
    have kp2 : Kp (fun q => HQ G P L ed rs q ∧ q < H0.size) _ (HQ G P L ed rs) H := fun q h1 h2 => ⟨h2.1, kq q h2.2 (fun z => h2.1.2 (Or.inr (Or.inr (z ▸ hwm))))⟩
    have hd := hd.kp (P' := HQ G P L ed rs) (Kp.weak (fun q _ z => toQ q (Nat.le_trans hgs32 z)))
    rw [htn] at hnm
    have hN3 := hNz.set hw9 hnd kp2 (fun q h1 h2 h3 => kq q (hrl q h2) h3) (t := (nm, t9.2 ++ 44 :: v)) (cb := false) ⟨nm9, d, none, hOw, hnm.kp kp2, hd, trivial, rfl⟩
    rw [← hA9] at hN3
    exact z_vret cx hQ rfl (⟨ed, rs, _, mz, hh, hL, by rw [if_neg hAl]; exact hed, hN3, hnd, Or.inl rfl, fun r hr => Or.inl hr⟩) hS (by omega) dX2_add_35
