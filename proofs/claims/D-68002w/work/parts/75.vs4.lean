/-! ===== the component: Control made ===== -/
set_option maxHeartbeats 4000000 in
set_option maxRecDepth 100000 in
theorem m_X3_init (G : zE) (l : Launch) (H0 : Heap) (P : Nat → Prop) (co : Nat) (y : Option Nat) (v : Option (List Int)) (hB : Bh G H0) (hbc : G.2.heap.size ≤ co) (hc : Ob G H0 co 2 [.null, .null]) (hv : Os G P H0 y v) (hn : oL v ≤ 3000) (hPc : ∀ q, P q → q ≠ co) {mc ms : Nat} (hmc : 13 * oL v + 30 ≤ mc) (hms : 50 * oL v + 500 ≤ ms) : zV G l yX3_init (ws_ yX3_init cX3_init 4 (none)) 8 216 mc ms [.ref co, va_rf y] H0 (fun H1 => Ct G (fun q => H0.size ≤ q ∨ q = co ∨ q < G.2.heap.size) H1 co (ctL v)) (fun q => H0.size ≤ q ∨ q = co) := by
  refine zV.start (cc := cX3_init) (by decide) (by cases y <;> exact (Nat.le_of_ble_eq_true rfl)) ?_
  intro p e s m args below meth c Q cx hQ hmn ls hl
  have hx := cx.1
  have hb := cx.2.1
  have hS : va_S (fun q => H0.size ≤ q ∨ q = co) H0 H0 [] := va_S.rf
  have hl : lv_has ls 4 [(0, .ref co), (1, va_rf y)] := (by cases y <;> exact hl)
  have hB9 := hB.1
  have hBA : ∀ q, (H0.size ≤ q ∨ q = co) → G.2.heap.size ≤ q := fun q z => by rcases z with z | z; omega; omega
  have hcl := hc.lt
  have he0 := e0_lt cx.kk.1
  refine lv_aload_n hx hb dX3_init_0 rfl (lv_at hl 0 rfl) ?_
  refine z_obj cx q119 q70 q71 hl (Nat.le_of_ble_eq_true rfl) (by decide) dX3_init_1 ?_
  refine lv_aload_n hx hb dX3_init_4 rfl (lv_at hl 0 rfl) ?_
  refine z_new cx (ci := 8) (vs := [.int (iI 0), .null, .int (iI 0)]) hS rfl in_J2 tyJ2_ok q120 q73 q35 (zdefJ2) (by omega) dX3_init_5 (fun nl H hnl hgnl Anl hz9 hE9 hS => ?_)
  have hc := hc.ext hE9
  refine lv_dup hx hb dX3_init_8 rfl ?_
  have hnc : nl ≠ co := by omega
  have hc8 := hc
  refine z_callI cx (j := 0) (m_J2_init G l _ nl (.int (iI 0)) .null (.int (iI 0)) (hB.ofS hS hBA) (by omega) Anl (mc := 0) (ms := 0)) (lw_meth q76) q35 q121 q75 rfl (by decide +kernel) rfl (rest := [.ref nl, .ref co]) rfl hl (Nat.le_of_ble_eq_true rfl) (by decide) (by omega) dX3_init_9 hS (fun q h => by rcases h with h | h; exact Or.inl (Nat.le_trans hS.1 h); exact Or.inl (h ▸ hgnl)) (fun H locs hp9 hz9 hk9 hS => ?_)
  have h1 := hp9
  have hc := hc8.kept (hk9 co hc8.lt (by rintro (z | z); exact absurd hc8.lt (Nat.not_lt.mpr z); exact hnc z.symm))
  refine z_putF cx hmn (k0 := 0) (vs' := [.ref nl, .null]) hc (Or.inr rfl) hS rfl in_X3 tyX3_ok nmX3 (by decide) q665 rfl rfl rfl rfl (Nat.le_of_ble_eq_true rfl) ⟨rfl, rfl⟩ dX3_init_12 (fun H locs hc hz9 hq9 hS => ?_)
  have h1 := h1.kept (hq9 _ hnc)
  refine lv_aload_n hx hb dX3_init_15 rfl (lv_at hl 0 rfl) ?_
  refine z_new cx (ci := 8) (vs := [.int (iI 0), .null, .int (iI 0)]) hS rfl in_J2 tyJ2_ok q120 q73 q35 (zdefJ2) (by omega) dX3_init_16 (fun ul H hul hgul Aul hz9 hE9 hS => ?_)
  have hc := hc.ext hE9
  have h1 := h1.ext hE9
  refine lv_dup hx hb dX3_init_19 rfl ?_
  have hhu : nl < H.size := h1.lt
  have huc : ul ≠ co := by have := hz9; have := hS.1; omega
  have hun : ul ≠ nl := fun e => by rw [e] at hul; have := hz9; have := h1.lt; omega
  have hc8 := hc
  have h18 := h1
  refine z_callI cx (j := 0) (m_J2_init G l _ ul (.int (iI 0)) .null (.int (iI 0)) (hB.ofS hS hBA) (by omega) Aul (mc := 0) (ms := 0)) (lw_meth q76) q35 q121 q75 rfl (by decide +kernel) rfl (rest := [.ref ul, .ref co]) rfl hl (Nat.le_of_ble_eq_true rfl) (by decide) (by omega) dX3_init_20 hS (fun q h => by rcases h with h | h; exact Or.inl (Nat.le_trans hS.1 h); exact Or.inl (h ▸ hgul)) (fun H locs hp20 hz9 hk9 hS => ?_)
  have h3 := hp20
  have hc := hc8.kept (hk9 co hc8.lt (by rintro (z | z); exact absurd hc8.lt (Nat.not_lt.mpr z); exact huc z.symm))
  have h1 := h18.kept (hk9 nl h18.lt (by rintro (z | z); exact absurd h18.lt (Nat.not_lt.mpr z); exact hun z.symm))
  refine z_putF cx hmn (k0 := 1) (vs' := [.ref nl, .ref ul]) hc (Or.inr rfl) hS rfl in_X3 tyX3_ok nmX3 (by decide) q666 rfl rfl rfl rfl (Nat.le_of_ble_eq_true rfl) ⟨rfl, rfl⟩ dX3_init_23 (fun H locs hc hz9 hq9 hS => ?_)
  have h1 := h1.kept (hq9 _ hnc)
  have h3 := h3.kept (hq9 _ huc)
  have hgs := hS.1
  have hcb : CB G (fun q => H0.size ≤ q ∨ q < G.2.heap.size) H co nl ul (e0 G) (e0 G) 0 0 0 0 [] [] [] := ⟨hc, h1, Or.inl ⟨rfl, rfl, rfl⟩, h3, Or.inl ⟨rfl, rfl, rfl⟩, NB.nil, UB.nil⟩
  have hgnl9 : H0.size ≤ nl := hgnl
  have hgul9 : H0.size ≤ ul := hgul
  rcases y with _ | y
  · have hv0 := hv.n
    subst hv0
    refine lv_aload_nN hx hb dX3_init_26 rfl (lv_at hl 1 rfl) ?_
    refine lv_ifnonnullN hx hb dX3_init_27 ?_
    exact z_vret cx hQ rfl (hcb.fin (fun q z => by rcases z with z | z; exact Or.inl z; exact Or.inr (Or.inr z)) (Or.inr (Or.inl rfl)) (Or.inl hgnl9) (Or.inl hgul9) (Or.inl rfl) (Or.inl rfl) (by omega) (by show 0 ≤ 30000; omega)) hS (by omega) dX3_init_30
  · obtain ⟨xs, rfl, hy⟩ := hv.s
    have hLs := lst_sum (xs.map smI)
    have hLn := lst_len (xs.map smI)
    rw [map_len] at hLs hLn
    have hn9 : xs.length ≤ 3000 := hn
    have hmc9 : 13 * xs.length + 30 ≤ mc := hmc
    have hms9 : 50 * xs.length + 500 ≤ ms := hms
    have hkP : ∀ (Hc : Heap), H0.size ≤ Hc.size → (∀ q : Nat, q < H0.size → ¬ (H0.size ≤ q ∨ q = co) → Hc[q]? = H0[q]?) → St G P Hc y xs := fun Hc hsz hk => hy.kp (fun q hq hp => ⟨hp, hk q hq (by rintro (z | z); omega; exact hPc q hp z)⟩)
    have hy := hkP H hS.1 hS.2.1
    have hHs := hS.1
    have hsn : nl < H.size := h1.lt
    have hsu : ul < H.size := h3.lt
    have hsc : co < H.size := hc.lt
    refine lv_aload_n hx hb dX3_init_26 rfl (lv_at hl 1 rfl) ?_
    refine lv_ifnonnull (tgt := 31) hx hb dX3_init_27 (by decide) ?_
    refine lv_aload_n hx hb dX3_init_31 rfl (lv_at hl 1 rfl) ?_
    refine z_callSN cx (j := 1) (m_X1_small G l _ P y xs (hB.ofS hS hBA) hy (by omega) (mc := xs.length + 4) (ms := 5 * xs.length + 60) (Nat.le_refl _) (Nat.le_refl _)) q122 (lw_meth q124) q123 q32 (by decide +kernel) rfl (rest := []) rfl hl (Nat.le_of_ble_eq_true rfl) (by decide) (by omega) dX3_init_32 hS (fun q h => Or.inl (Nat.le_trans hS.1 h)) (fun v32 H locs hp32 hz9 hk9 hS => ?_)
    have hE9 := Ext.of hz9 hk9 (fun q h => h)
    obtain ⟨sm, rfl, hsm⟩ := hp32
    have hc := hc.ext hE9
    have h1 := h1.ext hE9
    have h3 := h3.ext hE9
    have hcb := hcb.ext hE9
    have hz32 := hz9
    have hml : (xs.map smI).length = xs.length := map_len
    refine z_callSN cx (j := 1) (m_X1_cut G l _ _ sm (xs.map smI) (hB.ofS hS hBA) hsm (by omega) (mc := 5 * xs.length + 6) (ms := 18 * xs.length + 80) (by omega) (by omega)) q468 (lw_meth q470) q469 q32 (by decide +kernel) rfl (rest := []) rfl hl (Nat.le_of_ble_eq_true rfl) (by decide) (by omega) dX3_init_35 hS (fun q h => Or.inl (Nat.le_trans hS.1 h)) (fun v35 H locs hp35 hz9 hk9 hS => ?_)
    have hE9 := Ext.of hz9 hk9 (fun q h => h)
    obtain ⟨L, rfl, hgL, hLL⟩ := hp35
    have hc := hc.ext hE9
    have h1 := h1.ext hE9
    have h3 := h3.ext hE9
    have hcb := hcb.ext hE9
    have hz35 := hz9
    have hLL := hLL.kp (P' := QC G (fun q => H0.size ≤ q ∨ q < G.2.heap.size) nl ul (e0 G) (e0 G)) cx.kk.1 (Kp.weak (fun q _ z => by
      have hnew : H.size ≤ H.size := Nat.le_refl _
      have key : ∀ q : Nat, (hh : nl < q ∧ ul < q ∧ H0.size ≤ q ∧ e0 G < q) → QC G (fun q => H0.size ≤ q ∨ q < G.2.heap.size) nl ul (e0 G) (e0 G) q := fun q hh => ⟨Or.inl hh.2.2.1, fun w => by rcases w with w | w | ⟨-, w | w⟩ <;> omega⟩
      rcases z with z | z | z
      · have z : _ ≤ q := z; exact key q (by omega)
      · exact key q (by omega)
      · exact ⟨Or.inr z, fun w => by rcases w with w | w | ⟨wb, -⟩ <;> omega⟩))
    refine lv_astore_n (lv' := [(2, .ref L), (0, .ref co), (1, .ref y)]) hx hb dX3_init_38 rfl hl (by decide) rfl (fun ls hl => ?_)
    refine lv_iconst (v := iI (0)) hx hb dX3_init_39 rfl ?_
    refine lv_istore_n (lv' := [(3, .int (iI 0)), (2, .ref L), (0, .ref co), (1, .ref y)]) hx hb dX3_init_40 rfl hl (by decide) rfl (fun ls hl => ?_)
    obtain ⟨XL, hXL⟩ : ∃ XL, XL = lst (xs.map smI) := ⟨_, rfl⟩
    rw [← hXL] at hLL hLs hLn
    have lp : ∀ (fuel : Nat) (j ed1 ed2 cap1 cap2 : Nat) (m1 m2 : Int) (rs1 rs2 : List Nat), (XL.length - j) < fuel → (j ≤ XL.length) → (cap1 ≤ 10 + 2 * (XL.length + 2)) → (cap2 ≤ 10 + 2 * (XL.length + 2)) → (ed1 = ed2 → ed1 = e0 G) → (ed1 = e0 G ∨ H0.size ≤ ed1) → (ed2 = e0 G ∨ H0.size ≤ ed2) → ∀ (H : Heap) (locs : List Loc) (ls : Array Slot) (k n : Nat), va_S (fun q => H0.size ≤ q ∨ q = co) H0 H locs → (CB G (fun q => H0.size ≤ q ∨ q < G.2.heap.size) H co nl ul ed1 ed2 cap1 cap2 m1 m2 rs1 rs2 ((XL.take j).foldl ctA [])) → (LSt G (QC G (fun q => H0.size ≤ q ∨ q < G.2.heap.size) nl ul ed1 ed2) H L XL) → (k + 7 * (XL.length - j) ≤ mc) → (n + 2 * sL (XL.drop j) + 12 * (XL.length - j) + 8 * (10 + 2 * (XL.length + 2)) ≤ ms + 4 * cap1 + 4 * cap2) → lv_has ls 4 [(0, .ref co), (1, .ref y), (2, .ref L), (3, .int (iI ↑j))] → W p l e ⟨8, mc, ms, 216⟩ s m args below meth c H locs k n Q (F0 m 41 ls []) := by
      intro fuel
      induction fuel with
      | zero => intro j ed1 ed2 cap1 cap2 m1 m2 rs1 rs2 hf9; exact absurd hf9 (Nat.not_lt_zero _)
      | succ fuel ih_lp =>
        intro j ed1 ed2 cap1 cap2 m1 m2 rs1 rs2 hf9 hj hc1 hc2 hed hg1 hg2 H locs ls k n hS hcb hLL hr1 hr2 hl
        have hLL9 := hLL
        obtain ⟨edL, rsL, capL, mL, hPL, hL1, hL2, hLp, hL9, hst⟩ := hLL9
        have hcl9 := hcb.1
        refine lv_iload_n hx hb dX3_init_41 rfl (lv_at hl 3 rfl) ?_
        refine lv_aload_n hx hb dX3_init_42 rfl (lv_at hl 2 rfl) ?_
        refine z_callV cx (j := 0) (m_J2_size G l _ L (rsL.length : Int) (.int (iI mL)) (.ref edL) hL1 (mc := 0) (ms := 0)) (lw_V q545 q546 q547 q35 q548) (zrecv cx hL1 rfl) (by decide +kernel) rfl (rest := [.int (iI ↑j)]) rfl hl (Nat.le_of_ble_eq_true rfl) (by decide) (by omega) dX3_init_43 hS (fun q h => Or.inl (Nat.le_trans hS.1 h)) (fun v43 H locs hp43 hz9 hk9 hS => ?_)
        have hE9 := Ext.of hz9 hk9 (fun q h => h)
        have hL1 := hL1.ext hE9
        have hcl9 := hcl9.ext hE9
        subst hp43
        have hcb := hcb.ext hE9
        have hLL := hLL.ext cx.kk.1 hE9
        have hL2 := hL2.ext hE9
        have hfl := ctf_len (XL.take j) []
        rw [List.length_take, List.length_nil] at hfl
        refine z_icmp_ge cx (tgt := 67) dX3_init_46 (by decide) (by omega) (fun c46 => ?_) (fun c46 => ?_)
        · have e1 : ctL (some xs) = (XL.take j).foldl ctA [] := by rw [List.take_of_length_le (by omega), hXL]; rfl
          exact z_vret cx hQ rfl (by rw [e1]; exact hcb.fin (fun q z => by rcases z with z | z; exact Or.inl z; exact Or.inr (Or.inr z)) (Or.inr (Or.inl rfl)) (Or.inl hgnl9) (Or.inl hgul9) (hg1.imp id Or.inl) (hg2.imp id Or.inl) (by omega) (by omega)) hS (by omega) dX3_init_67
        · obtain ⟨x9, hx9⟩ : ∃ x, XL[j]? = some x := ⟨_, List.getElem?_eq_getElem (by omega)⟩
          obtain ⟨w9, hw9⟩ : ∃ w, rsL[j]? = some w := ⟨_, List.getElem?_eq_getElem (by omega)⟩
          have hgd : rsL.getD j 0 = w9 := by rw [List.getD_eq_getElem?_getD, hw9]; rfl
          have hstx := (hst j w9 x9 hw9 hx9).ext hE9
          have hsd := sL_drop hx9
          refine lv_aload_n hx hb dX3_init_49 rfl (lv_at hl 0 rfl) ?_
          refine lv_aload_n hx hb dX3_init_50 rfl (lv_at hl 2 rfl) ?_
          refine lv_iload_n hx hb dX3_init_51 rfl (lv_at hl 3 rfl) ?_
          refine z_callV cx (j := 1) (m_J2_get G l _ L edL j capL rsL (.int (iI mL)) hL1 hL2 ⟨by omega, by omega⟩ (mc := 0) (ms := 0)) (lw_V q549 q550 q551 q35 q552) (zrecv cx hL1 rfl) (by decide +kernel) rfl (rest := [.ref co]) rfl hl (Nat.le_of_ble_eq_true rfl) (by decide) (by omega) dX3_init_52 hS (fun q h => Or.inl (Nat.le_trans hS.1 h)) (fun v52 H locs hp52 hz9 hk9 hS => ?_)
          have hE9 := Ext.of hz9 hk9 (fun q h => h)
          have hL1 := hL1.ext hE9
          have hcl9 := hcl9.ext hE9
          subst hp52
          have hcb := hcb.ext hE9
          have hLL := hLL.ext cx.kk.1 hE9
          have hstx := hstx.ext hE9
          rw [hgd]
          have hstx8 := hstx
          obtain ⟨-, -, -, b8, -, hs8, -⟩ := hstx8
          refine va_castE hx hb cx.wn (cx.ts _ q561) (zrecvS cx hs8) dX3_init_55 ?_
          have hgs8 := hS.1
          obtain ⟨kv, hkv⟩ : ∃ kv, kv = (XL.take j).foldl ctA [] := ⟨_, rfl⟩
          rw [← hkv] at hcb hfl
          have hkl := ctA_len kv x9
          have g1 := gr_or cap1
          have g2 := gr_or cap2
          have hle1 : rs1.length ≤ cap1 := hcb.2.2.1.le
          have hle2 : rs2.length ≤ cap2 := hcb.2.2.2.2.1.le
          have hm1 : rs1.length = kv.length := by have := hcb.2.2.2.2.2.1.1; rw [List.length_map] at this; exact this
          have hm2 : rs2.length = kv.length := by have := hcb.2.2.2.2.2.2.1; rw [List.length_map] at this; exact this
          have hnb1 : nl < H.size := hcb.2.1.lt
          have hnb2 : ul < H.size := hcb.2.2.2.1.lt
          obtain ⟨G1, hG1⟩ : ∃ G1, G1 = (if cap1 < (ctA kv x9).length then gr cap1 else 0) := ⟨_, rfl⟩
          obtain ⟨G2, hG2⟩ : ∃ G2, G2 = (if cap2 < (ctA kv x9).length then gr cap2 else 0) := ⟨_, rfl⟩
          obtain ⟨C1, hC1⟩ : ∃ C1, C1 = (if cap1 < (ctA kv x9).length then gr cap1 else cap1) := ⟨_, rfl⟩
          obtain ⟨C2, hC2⟩ : ∃ C2, C2 = (if cap2 < (ctA kv x9).length then gr cap2 else cap2) := ⟨_, rfl⟩
          have hG1b : 4 * cap1 + G1 ≤ 4 * C1 ∧ C1 ≤ 10 + 2 * (XL.length + 2) := by rw [hG1, hC1]; clear hG1 hG2 hC1 hC2 g2 hg1 hg2; split <;> omega
          have hG2b : 4 * cap2 + G2 ≤ 4 * C2 ∧ C2 ≤ 10 + 2 * (XL.length + 2) := by rw [hG2, hC2]; clear hG1 hG2 hC1 hC2 g1 hg1 hg2 hG1b; split <;> omega
          have hrG : (if cap1 < (ctA kv x9).length then gr cap1 else 0) + (if cap2 < (ctA kv x9).length then gr cap2 else 0) = G1 + G2 := by rw [hG1, hG2]
          clear g1 g2 hG1 hG2
          refine z_callVv cx (j := 1) (m_X3_add G l _ (fun q => H0.size ≤ q ∨ q < G.2.heap.size) co nl ul ed1 ed2 cap1 cap2 w9 m1 m2 rs1 rs2 kv x9 (hB.ofS hS hBA) ⟨hbc, by omega, by omega⟩ (Ne.symm hun) hed hcb (fun q z => z.imp (fun w => Nat.le_trans hgs8 w) id) hstx (by omega) (mc := 7) (ms := 2 * x9.length + 12 + G1 + G2) (Nat.le_refl _) (by rw [Nat.add_assoc, hrG, ← Nat.add_assoc]; exact Nat.le_refl _)) (lw_V q562 q564 qs4 q37 q565) (zrecv cx hcl9 rfl) (by decide +kernel) rfl (rest := []) rfl hl (Nat.le_of_ble_eq_true rfl) (by decide) (by omega) dX3_init_58 hS (fun q h => by rcases h with h | h | h | ⟨hb, h | h⟩; exact Or.inl (Nat.le_trans hS.1 h); exact Or.inl (h ▸ hgnl9); exact Or.inl (h ▸ hgul9); exact Or.inl (by rcases hg1 with e | e <;> omega); exact Or.inl (by rcases hg2 with e | e <;> omega)) (fun H locs hp58 hz9 hk9 hS => ?_)
          obtain ⟨d1, d2, n1, n2, ss1, ss2, hcb, hd1, hd2, hdd⟩ := hp58
          have hLL := hLL.kp cx.kk.1 (QC.kpAB hk9 hd1 hd2)
          rw [← hC1, ← hC2] at hcb
          have e4 : (XL.take (j + 1)).foldl ctA [] = ctA kv x9 := by rw [foldl_take hx9, hkv]
          rw [← e4] at hcb
          have hG1' : d1 = e0 G ∨ H0.size ≤ d1 := by rcases hd1 with e | e; rw [e]; exact hg1; exact Or.inr (Nat.le_trans hgs8 e)
          have hG2' : d2 = e0 G ∨ H0.size ≤ d2 := by rcases hd2 with e | e; rw [e]; exact hg2; exact Or.inr (Nat.le_trans hgs8 e)
          clear hd1 hd2 hg1 hg2 hed
          have hlt9 : XL.length - (j + 1) < fuel := by clear hdd hG1' hG2'; omega
          have hr19 : k + 7 + 7 * (XL.length - (j + 1)) ≤ mc := by clear hdd hG1' hG2'; omega
          refine z_iinc cx (j := 3) (z := ((j + 1 : Nat) : Int)) (lv' := [(3, .int (iI ((j + 1 : Nat) : Int))), (0, .ref co), (1, .ref y), (2, .ref L)]) dX3_init_61 hl rfl (by omega) (by decide) rfl (fun ls hl => ?_)
          refine lv_goto (tgt := 41) hx hb dX3_init_64 (by decide) ?_
          exact ih_lp (j + 1) d1 d2 C1 C2 n1 n2 ss1 ss2 hlt9 (by clear hdd hG1' hG2'; omega) hG1b.2 hG2b.2 hdd hG1' hG2' _ _ _ _ _ hS hcb hLL (by clear hdd hG1' hG2'; omega) (by clear hdd hG1' hG2'; omega) (lv_sub hl [1, 2, 3, 0] rfl)
    exact lp _ 0 (e0 G) (e0 G) 0 0 0 0 [] [] (Nat.lt_succ_self _) (Nat.zero_le _) (by omega) (by omega) (fun _ => rfl) (Or.inl rfl) (Or.inl rfl) _ _ _ _ _ hS hcb hLL (by omega) (by rw [List.drop_zero]; unfold sL; omega) (lv_sub hl [2, 3, 1, 0] rfl)
