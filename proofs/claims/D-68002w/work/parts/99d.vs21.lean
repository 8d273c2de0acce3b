/-! ===== the component: keep ===== -/
set_option maxHeartbeats 4000000 in
set_option maxRecDepth 100000 in
theorem m_X1_keep (G : zE) (l : Launch) (H0 : Heap) (hl0 : l.stackTraces = false) (x : Nat) (p0 : Int) (cs : List Bool) (g : Sg) (hB : Bh G H0) (hR : RepC G H0 x cs g) (hz : rg p0) (hu : gUse g < 99999) (hI1 : NLk (gTs g)) (hI2 : ∀ t ∈ gTs g, tUsed t ≤ gUse g) {mc ms : Nat} (hm0 : 10 * (gTape g).length + 31 ≤ mc ∧ (116 + 2 * (gTape g).length) * (gTape g).length + 28 * (gTape g).length + 506 ≤ ms) (hmc : Imp (rdOk g p0 = true) (uC cs (mrg (gReq g)) + 50 * (gTape g).length + 200 ≤ uC (csV (mrg (gReq g)) cs (kVy (rdX g))) (mrg (gReq g)) + mc)) (hms : Imp (rdOk g p0 = true) (uS cs (mrg (gReq g)) + (116 + 2 * (gTape g).length) * (gTape g).length + 150 * (gTape g).length + 2000 ≤ uS (csV (mrg (gReq g)) cs (kVy (rdX g))) (mrg (gReq g)) + ms)) : zX G l yX1_keep (ws_ yX1_keep cX1_keep 7 (some FieldType.boolean)) 20 455 mc ms [.ref x, .int (iI p0)] H0 exIA (fun r H1 => rdOk g p0 = true ∧ r = .int (iI (b2i (kMay g p0))) ∧ RepC G H1 x (csV (mrg (gReq g)) cs (kVy (rdX g))) (keepS g p0)) (fun H1 => rdOk g p0 = false ∧ RepC G H1 x cs (rdS g)) (AC G H0) := by
  refine zX.start (cc := cX1_keep) (by decide) (Nat.le_of_ble_eq_true rfl) ?_
  intro p e s m args below meth c Q cx hQ htb ls hl
  have hx := cx.1
  have hb := cx.2.1
  have hS : va_S (AC G H0) H0 H0 [] := va_S.rf
  have hl : lv_has ls 7 [(0, .ref x), (1, .int (iI p0))] := hl
  have hB9 := hB.1
  have hBA : ∀ q, AC G H0 q → G.2.heap.size ≤ q := AC.own hB
  obtain ⟨tp, th, ed, cap, rq, wi, mz, as, rs, pad, hx0, hR2, hm, hok, htz⟩ := hR
  obtain ⟨⟨hm1, hpd⟩, hm2, hm3, hm4, hm5, hm6, hm7, hm8, hm9⟩ := id hm
  obtain ⟨g1, g2, g3, g4, g5, g6⟩ := id hR2
  have hAx := AC.x hx0 hm5
  have hxl := hx0.lt
  have hel := g3.edlt cx.kk.1
  have hal : ∀ a ∈ as, a < H0.size := fun a ha => by obtain ⟨t, ht⟩ := g6.get ha; exact ht.lt
  have hrl : ∀ r ∈ rs, r < H0.size := fun r hr => (g4.rcl r hr).lt
  have hAth := AC.th g2 hm7
  have hAed := fun hb => AC.ed cx.kk.1 g3 (q := ed) hb
  have hlen := g6.1
  have hln0 := g4.len
  obtain ⟨f1, f2, f3⟩ := csV_le (T := mrg (gReq g)) (kVy (rdX g)) cs hln0.2
  obtain ⟨c9, hc9⟩ : ∃ c, c = csV (mrg (gReq g)) cs (kVy (rdX g)) := ⟨_, rfl⟩
  rw [← hc9] at hmc hms f1 f2
  obtain ⟨M, hM⟩ : ∃ T, T = mrg (gReq g) := ⟨_, rfl⟩
  rw [← hM] at hmc hms f1 f2 htz
  obtain ⟨N, hN9⟩ : ∃ N, N = (gTape g).length := ⟨_, rfl⟩
  obtain ⟨N2, hN2⟩ : ∃ N2, N2 = (116 + 2 * N) * N := ⟨_, rfl⟩
  rw [← hN9, ← hN2] at hms
  rw [← hN9] at hmc
  rw [← hN9, ← hN2] at hm0
  refine lv_aload_n hx hb dX1_keep_0 rfl (lv_at hl 0 rfl) ?_
  refine lv_iload_n hx hb dX1_keep_1 rfl (lv_at hl 1 rfl) ?_
  refine z_callVX cx (j := 1) (m_X1_readFor G l _ hl0 x tp th rq wi (gFault g) (gTime g) (gUse g : Int) p0 (gTape g) pad hB hm5 hx0 g1 ⟨hok.1, hpd, hok.2.1⟩ hz (mc := 10 * N + 31) (ms := N2 + 28 * N + 506) (by rw [hN9]; exact Nat.le_refl _) (by rw [hN2, hN9]; exact Nat.le_refl _)) (lw_V q726 q728 qs7 q32 q729) (zrecv cx hx0 rfl) (by decide +kernel) rfl (rest := []) rfl hl (Nat.le_of_ble_eq_true rfl) (by decide) (by omega) dX1_keep_2 hS (fun q h => by rcases h with h | h; exact Or.inl (Nat.le_trans hS.1 h); exact h ▸ hAx) (fun q9 ce9 H locs hp2 hz9 hk9 hS hce9 hcv9 hcl9 => ?_) (fun v2 H locs hp2 hz9 hk9 hS => ?_)
  · subst hQ; exact z_outX cx htb ⟨by rw [rdOk]; exact decide_eq_false hp2.1, RepC.rd cx.kk hx0 hR2 hm hok (by rw [← hM]; exact htz) hk9 hp2.2⟩ hS hce9 hcv9 hcl9 (by omega)
  skip
  obtain ⟨hrd, hx1, h9, rs9, cs9, rfl, hHn, hnd, hrs, htz9⟩ := hp2
  have hrdx : tln (gTape g) (rdT (gTape g)).2 = rdX g := rfl
  rw [hrdx] at hHn htz9
  have hrd9 : rdOk g p0 = true := by rw [rdOk]; exact decide_eq_true hrd
  have hmc := hmc hrd9
  have hms := hms hrd9
  have hR3 := hR2.kx cx.kk hx0 hm5 hk9
  obtain ⟨htp, hth, hed, hHR, hCw, hC⟩ := hR3
  have hgs1 := hS.1
  have hPn : ∀ q, (H0.size ≤ q ∨ q < G.2.heap.size) → PC G x tp th ed as rs q := fun q z => ⟨by rcases z with w | w <;> omega, by have := g1.lt; rcases z with w | w <;> omega, by have := g2.lt; rcases z with w | w <;> omega, fun hb => by rcases z with w | w; intro e; have := hel (by omega); omega; omega, fun w => by have := hal q w; have := hm8 q w; rcases z with v | v <;> omega, fun w => by have := hrl q w; have := hm9 q w; rcases z with v | v <;> omega⟩
  have hHn := hHn.kp (P' := PC G x tp th ed as rs) cx.kk.1 (Kp.weak (fun q _ z => hPn q z.1)) (fun _ _ => rfl)
  have hTl := tsz_len (mrg (rdX g))
  have hn3 := hok.2.1
  have hn24 := hok.2.2.2.2.1
  have hMl := tsz_len M
  have hMv : ∀ t ∈ M, t.2.length ≤ 3000 := fun t ht => by have := mem_tsz ht; omega
  have hrr : ∀ r ∈ rs9, r ∉ rs := fun r hr z => by have := hrs r hr; have := hrl r z; omega
  clear hk9 hz9
  rw [← hM] at hHR
  have hVc : hdV (mrg (rdX g)) nCc = vof (rdX g) nCc := (mrg_ok (rdX g) nCc).2
  have hVl := hdV_tsz (mrg (rdX g)) nCc
  obtain ⟨K, hK⟩ : ∃ t, t = kTh g p0 := ⟨_, rfl⟩
  obtain ⟨Hb, hHb⟩ : ∃ h : Heap, h = H := ⟨_, rfl⟩
  have hE0 : Ext Hb H := hHb ▸ Ext.rf
  have hx7 := hx1
  rw [← hHb] at hx1 htp hth hed hHR hCw hC hHn
  have hzb : H0.size ≤ Hb.size := by rw [hHb]; exact hgs1
  have hb1 : ∀ r ∈ rs, r < Hb.size := fun r hr => (hHR.rcl r hr).lt
  have hb2 : ∀ r ∈ rs9, r < Hb.size := fun r hr => (hHn.rcl r hr).lt
  have hb3 : ∀ a ∈ as, a < Hb.size := fun a ha => by obtain ⟨t, ht⟩ := hC.get ha; exact ht.lt
  have hHn := hHn.kp (P' := (fun q => PC G x tp th ed as rs q ∧ q < Hb.size)) cx.kk.1 (Kp.weak (fun q h1 h2 => ⟨h2, h1⟩)) (fun _ _ => rfl)
  obtain ⟨hx8, ht8, hp8, he8⟩ : Ob G Hb x 0 _ ∧ Ob G Hb th 8 _ ∧ Ai G Hb tp 100 _ ∧ EDok G Hb ed as cap := ⟨hx1, hth, htp, hed⟩
  have hx1 := hx7
  have hgB := hB.1
  have hnVy := (hHn.och nVary)
  have hnEt := (hHn.och nEtag)
  rw [(mrg_ok (rdX g) nVary).2] at hnVy
  rw [(mrg_ok (rdX g) nEtag).2] at hnEt
  have hnCc := (hHn.och nCc)
  rw [(mrg_ok (rdX g) nCc).2] at hnCc
  have hvR : ∀ w, ochs (vof (gReq g) w) ∧ olen (vof (gReq g) w) 30100 := fun w => by
    have h := hHR.och w
    rw [hM, (mrg_ok (gReq g) w).2, ← hM] at h
    exact ⟨h.1, fun y hy => Nat.le_trans (h.2 y hy) (by omega)⟩
  have hNz : tsz (mrg (rdX g)) ≤ N := by rw [hN9]; exact htz9
  have hKok : ThOk K := by
    rw [hK]
    exact kTh_ok hz hok.2.2.2.1 ⟨hnEt.1, fun y hy => Nat.le_trans (hnEt.2 y hy) (by omega)⟩ (kVy_ok ⟨hnVy.1, fun y hy => Nat.le_trans (hnVy.2 y hy) (by omega)⟩) hvR ⟨hnCc.1, fun y hy => Nat.le_trans (hnCc.2 y hy) (by omega)⟩
  have hThs : ∀ t ∈ gTs g, ThOk t := fun t ht => by
    obtain ⟨i, hi, rfl⟩ := List.mem_iff_getElem.mp ht
    obtain ⟨a, ha⟩ : ∃ a, as[i]? = some a := ⟨_, List.getElem?_eq_getElem (by omega)⟩
    exact (hC.2 i a _ ha (List.getElem?_eq_getElem hi)).1
  have hk1 : kTs1 g p0 = (gTs g).filter (fun t => !isLk K t) := by rw [hK]; exact kTs1_eq (hK ▸ hKok) hThs hI1
  refine lv_astore_n (lv' := [(2, .ref h9), (0, .ref x), (1, .int (iI p0))]) hx hb dX1_keep_5 rfl hl (by decide) rfl (fun ls hl => ?_)
  refine z_new cx (ci := 2) (vs := [.null, .null]) hS rfl in_X3 tyX3_ok q114 q115 q37 (zdefX3) (by omega) dX1_keep_6 (fun co H hco hgco Aco hz9 hE9 hS => ?_)
  have hx1 := hx1.ext hE9
  have hE0 := hE0.trans hE9
  have hco9 : Hb.size ≤ co := by have := congrArg Array.size hHb; omega
  obtain ⟨L9, ed9, cap9, mz9, hPh, hPL, hPe, hh9, hL9, hed9, hcap9, hN9'⟩ := id (hHn.ext cx.kk.1 hE0)
  refine lv_dup hx hb dX1_keep_9 rfl ?_
  refine lv_aload_n hx hb dX1_keep_10 rfl (lv_at hl 0 rfl) ?_
  obtain ⟨la11, ltx, lR, lS11⟩ := lit_X1_152 cx.kk.1
  refine z_ldcS cx lR dX1_keep_11 ?_
  refine z_callV cx (j := 1) (m_X2_value G l _ (fun q => PC G x tp th ed as rs q ∧ q < Hb.size) (Old G) h9 L9 ed9 cap9 la11 (.int (iI mz9)) rs9 (mrg (rdX g)) cs9 nCc (hB.ofS hS hBA) hh9 hL9 hed9 hN9' (by omega) (lS11.old (hB.ofS hS hBA)) (mc := 0) (ms := 0)) (lw_V q796 q797 q798 q36 q799) (zrecv cx hh9 rfl) (by decide +kernel) rfl (rest := [.ref co, .ref co]) rfl hl (Nat.le_of_ble_eq_true rfl) (by decide) (by omega) dX1_keep_13 hS (fun q h => Or.inl (Nat.le_trans hS.1 h)) (fun v13 H locs hp13 hz9 hk9 hS => ?_)
  have hE9 := Ext.of hz9 hk9 (fun q h => h)
  obtain ⟨o9, rfl, ho⟩ := hp13
  have hx1 := hx1.ext hE9
  have Aco := Aco.ext hE9
  have hh9 := hh9.ext hE9
  have hE0 := hE0.trans hE9
  have hc0 := Aco
  refine z_callI cx (j := 1) (m_X3_init G l _ (fun q => PC G x tp th ed as rs q ∧ q < Hb.size) co o9 (hdV (mrg (rdX g)) nCc) (hB.ofS hS hBA) (by omega) Aco ho (by omega) (fun q z => by have := z.2; omega) (mc := 13 * N + 30) (ms := 50 * N + 500) (by omega) (by omega)) (lw_meth q118) q37 q116 q117 rfl (by decide +kernel) rfl (rest := [.ref co]) rfl hl (Nat.le_of_ble_eq_true rfl) (by decide) (by omega) dX1_keep_16 hS (fun q h => by rcases h with h | h; exact Or.inl (Nat.le_trans hS.1 h); exact Or.inl (by omega)) (fun H locs hp16 hz9 hk9 hS => ?_)
  have hCt := hp16
  have hE0 : Ext Hb H := ⟨Nat.le_trans hE0.1 hz9, fun q hq => (hk9 q (Nat.lt_of_lt_of_le hq hE0.1) (by have := hE0.1; rintro (z | z) <;> omega)).trans (hE0.2 q hq)⟩
  have hCt := hCt.kp (P' := (fun q => Hb.size ≤ q ∨ q < G.2.heap.size)) cx.kk.1 (Kp.weak (fun q _ z => by have := hc0.lt; have := hE0.1; rcases z with z | z | z; exact Or.inl (by omega); exact Or.inl (by omega); exact Or.inr z))
  rw [hVc] at hCt
  clear hk9 hz9
  have hx1 := hx8.ext hE0
  obtain ⟨L9, ed9, cap9, mz9, hPh, hPL, hPe, hh9, hL9, hed9, hcap9, hN9'⟩ := id (hHn.ext cx.kk.1 hE0)
  refine lv_astore_n (lv' := [(3, .ref co), (2, .ref h9), (0, .ref x), (1, .int (iI p0))]) hx hb dX1_keep_19 rfl hl (by decide) rfl (fun ls hl => ?_)
  refine lv_aload_n hx hb dX1_keep_20 rfl (lv_at hl 1 rfl) ?_
  obtain ⟨la21, ltx, lR, lS21⟩ := lit_X1_203 cx.kk.1
  refine z_ldcS cx lR dX1_keep_21 ?_
  have hc8 : c9 = csV M cs (kVy (rdX g)) := by rw [hM]; exact hc9
  have l40 : ∀ (fuel : Nat) (y9 : Nat), 0 < fuel → ∀ (H : Heap) (locs : List Loc) (ls : Array Slot) (k n : Nat), va_S (AC G H0) H0 H locs → Ob G H x 0 [.ref tp, .ref th, .ref rq, .ref wi, .int (iI 0), .int (iI ((rdT (gTape g)).1)), .int (iI (gTime g)), .int (iI (gUse g : Int))] → (Ext Hb H) → (Ct G (fun q => Hb.size ≤ q ∨ q < G.2.heap.size) H co (ctL (vof (rdX g) nCc))) → (St G (fun _ => True) H y9 ((vof (rdX g) nVary).getD [])) → (k + uC cs M + 27 * N + 100 ≤ uC c9 M + mc) → (n + uS cs M + 70 * N + 900 ≤ uS c9 M + ms) → lv_has ls 7 [(0, .ref x), (1, .int (iI p0)), (2, .ref h9), (3, .ref co)] → W p l e ⟨20, mc, ms, 455⟩ s m args below meth c H locs k n Q (F0 m 40 ls [.ref y9]) := by
    intro fuel
    induction fuel with
    | zero => intro y9 hf9; exact absurd hf9 (Nat.not_lt_zero _)
    | succ fuel ih_l40 =>
      intro y9 hf9  H locs ls k n hS hx1 hE0 hCt hy hr1 hr2 hl
      obtain ⟨yv, hyv⟩ : ∃ v, v = (vof (rdX g) nVary).getD [] := ⟨_, rfl⟩
      rw [← hyv] at hy
      have hyl : yv.length ≤ N := by
        rw [hyv]
        cases h : vof (rdX g) nVary with
        | none => exact Nat.zero_le _
        | some v => exact Nat.le_trans (hnVy.2 v h) hNz
      have hkv : kVy (rdX g) = lst (yv.map smI) := by rw [hyv]; exact kVy_eq _
      have hml : (yv.map smI).length = yv.length := List.length_map _
      have hkl := lst_len (yv.map smI)
      rw [← hkv, hml] at hkl
      have hE1 := hE0
      refine z_callS cx (j := 1) (m_X1_small G l _ _ y9 yv (hB.ofS hS hBA) hy (by omega) (mc := N + 4) (ms := 5 * N + 60) (by omega) (by omega)) (lw_S q741 q123 q32 q124) (by decide +kernel) rfl (rest := []) rfl hl (Nat.le_of_ble_eq_true rfl) (by decide) (by omega) dX1_keep_40 hS (fun q h => Or.inl (Nat.le_trans hS.1 h)) (fun v40 H locs hp40 hz9 hk9 hS => ?_)
      have hE9 := Ext.of hz9 hk9 (fun q h => h)
      obtain ⟨y8, rfl, hy8⟩ := hp40
      have hx1 := hx1.ext hE9
      have hE0 := hE0.trans hE9
      have hCt := hCt.ext cx.kk.1 hE9
      have hE2 := hE0
      refine z_callS cx (j := 1) (m_X1_cut G l _ _ y8 (yv.map smI) (hB.ofS hS hBA) hy8 (by omega) (mc := 5 * N + 6) (ms := 18 * N + 80) (by omega) (by omega)) (lw_S q881 q469 q32 q470) (by decide +kernel) rfl (rest := []) rfl hl (Nat.le_of_ble_eq_true rfl) (by decide) (by omega) dX1_keep_43 hS (fun q h => Or.inl (Nat.le_trans hS.1 h)) (fun v43 H locs hp43 hz9 hk9 hS => ?_)
      have hE9 := Ext.of hz9 hk9 (fun q h => h)
      obtain ⟨vy, rfl, hgv, hV⟩ := hp43
      have hx1 := hx1.ext hE9
      have hE0 := hE0.trans hE9
      have hCt := hCt.ext cx.kk.1 hE9
      rw [← hkv] at hV
      have hV := hV.kp (P' := (fun q => Hb.size ≤ q ∨ q < G.2.heap.size)) cx.kk.1 (Kp.weak (fun q _ z => by have := hE1.1; have := hE2.1; rcases z with z | z | z; exact Or.inl (by omega); exact Or.inl (by omega); exact Or.inr z))
      have hvy9 : Hb.size ≤ vy := Nat.le_trans hE2.1 hgv
      clear hE1 hE2
      refine lv_astore (lv' := [(4, .ref vy), (0, .ref x), (1, .int (iI p0)), (2, .ref h9), (3, .ref co)]) hx hb dX1_keep_46 hl (by decide) rfl (fun ls hl => ?_)
      refine z_new cx (ci := 4) (vs := [.int (iI 0), .null, .null, .null, .null, .int (iI 0), .int (iI 0), .int (iI 0), .int (iI 0)]) hS rfl in_X7 tyX7_ok q712 q882 q60 (zdefX7) (by omega) dX1_keep_48 (fun tt H htt hgtt Att hz9 hE9 hS => ?_)
      have hx1 := hx1.ext hE9
      have htt9 : Hb.size ≤ tt := by have := hE0.1; omega
      have hCt := (hCt.kp (P' := (fun q => (Hb.size ≤ q ∨ q < G.2.heap.size) ∧ q ≠ tt)) cx.kk.1 (Kp.weak (fun q h1 z => ⟨z, by omega⟩))).ext cx.kk.1 hE9
      have hV := (hV.kp (P' := (fun q => (Hb.size ≤ q ∨ q < G.2.heap.size) ∧ q ≠ tt)) cx.kk.1 (Kp.weak (fun q h1 z => ⟨z, by omega⟩))).ext cx.kk.1 hE9
      have hE0 := hE0.trans hE9
      have hAg : AC G H0 tt := Or.inl (by omega)
      have l73 : ∀ (fuel : Nat) (ye : Nat), 0 < fuel → ∀ (H : Heap) (locs : List Loc) (ls : Array Slot) (k n : Nat), va_S (AC G H0) H0 H locs → Ob G H x 0 [.ref tp, .ref th, .ref rq, .ref wi, .int (iI 0), .int (iI ((rdT (gTape g)).1)), .int (iI (gTime g)), .int (iI (gUse g : Int))] → Ob G H tt 4 [.int (iI 0), .null, .null, .null, .null, .int (iI 0), .int (iI 0), .int (iI 0), .int (iI 0)] → (Ext Hb H) → (Ct G (fun q => (Hb.size ≤ q ∨ q < G.2.heap.size) ∧ q ≠ tt) H co (ctL (vof (rdX g) nCc))) → (LSt G (fun q => (Hb.size ≤ q ∨ q < G.2.heap.size) ∧ q ≠ tt) H vy (kVy (rdX g))) → (St G (fun q => PC G x tp th ed as rs q ∧ q < Hb.size) H ye ((vof (rdX g) nEtag).getD [])) → (k + uC cs M + 20 * N + 80 ≤ uC c9 M + mc) → (n + uS cs M + 45 * N + 700 ≤ uS c9 M + ms) → lv_has ls 7 [(0, .ref x), (1, .int (iI p0)), (2, .ref h9), (3, .ref co), (4, .ref vy)] → W p l e ⟨20, mc, ms, 455⟩ s m args below meth c H locs k n Q (F0 m 73 ls [.ref ye, .int (iI p0), .ref tt, .ref tt]) := by
        intro fuel
        induction fuel with
        | zero => intro ye hf9; exact absurd hf9 (Nat.not_lt_zero _)
        | succ fuel ih_l73 =>
          intro ye hf9  H locs ls k n hS hx1 hO7 hE0 hCt hV hy hr1 hr2 hl
          have hltt := hO7.lt
          have hZ1 : ∀ q, PC G x tp th ed as rs q → q < Hb.size → (PC G x tp th ed (as ++ [tt]) rs) q := fun q h1 h2 => ⟨h1.1, h1.2.1, h1.2.2.1, h1.2.2.2.1, fun z => (List.mem_append.mp z).elim h1.2.2.2.2.1 (fun w => by have := List.mem_singleton.mp w; omega), h1.2.2.2.2.2⟩
          have hZ2 : ∀ q, (Hb.size ≤ q ∨ q < G.2.heap.size) → q ≠ tt → (PC G x tp th ed (as ++ [tt]) rs) q := fun q h1 h2 => by
            have h3 := hPn q (h1.imp (fun w => Nat.le_trans hzb w) id)
            exact ⟨h3.1, h3.2.1, h3.2.2.1, h3.2.2.2.1, fun z => (List.mem_append.mp z).elim h3.2.2.2.2.1 (fun w => h2 (List.mem_singleton.mp w)), h3.2.2.2.2.2⟩
          have hZt : ∀ q, (PC G x tp th ed (as ++ [tt]) rs) q → q ≠ tt := fun q z e => z.2.2.2.2.1 (by rw [e]; exact List.mem_append_right _ (List.mem_singleton_self _))
          have hHRz := hHR.kp (P' := (PC G x tp th ed (as ++ [tt]) rs)) cx.kk.1 (fun q h1 h2 => ⟨hZ1 q h2 h1, hE0.2 q h1⟩) (fun r hr => hE0.2 r (hb1 r hr))
          have hCwz := hCw.kp (P' := (PC G x tp th ed (as ++ [tt]) rs)) cx.kk.1 (fun q h1 h2 => ⟨hZ1 q h2 h1, hE0.2 q h1⟩)
          have hCz := hC.kp (P' := fun q => (PC G x tp th ed (as ++ [tt]) rs) q ∧ q < Hb.size) cx.kk.1 (fun q h1 h2 => ⟨⟨hZ1 q h2 h1, h1⟩, hE0.2 q h1⟩) (fun a ha => hE0.2 a (hb3 a ha))
          have hHnz := hHn.kp (P' := (PC G x tp th ed (as ++ [tt]) rs)) cx.kk.1 (fun q h1 h2 => ⟨hZ1 q h2.1 h1, hE0.2 q h1⟩) (fun r hr => hE0.2 r (hb2 r hr))
          have hVz := hV.kp (P' := (PC G x tp th ed (as ++ [tt]) rs)) cx.kk.1 (Kp.weak (fun q _ z => hZ2 q z.1 z.2))
          have hCtz := hCt.kp (P' := (PC G x tp th ed (as ++ [tt]) rs)) cx.kk.1 (Kp.weak (fun q _ z => hZ2 q z.1 z.2))
          have hyz := hy.kp (P' := (PC G x tp th ed (as ++ [tt]) rs)) (Kp.weak (fun q _ z => hZ1 q z.1 z.2))
          have hthz := ht8.ext hE0
          have htpz := hp8.ext hE0
          have hedz := he8.ext hE0
          have hsz := hE0.1
          refine lv_aload hx hb dX1_keep_73 (lv_at hl 4 rfl) ?_
          refine lv_aload_n hx hb dX1_keep_75 rfl (lv_at hl 0 rfl) ?_
          refine lv_aload hx hb dX1_keep_76 (lv_at hl 4 rfl) ?_
          refine z_callV cx (j := 1) (m_X1_valuesOf G l _ (PC G x tp th ed (as ++ [tt]) rs) (PC G x tp th ed (as ++ [tt]) rs) x rq vy (.ref tp) (.ref th) (.ref wi) (.int (iI 0)) (.int (iI (rdT (gTape g)).1)) (.int (iI (gTime g))) (.int (iI (gUse g : Int))) rs M cs (kVy (rdX g)) (hB.ofS hS hBA) hm5 hx1 hHRz hm4 hm9 (fun q z => hZ2 q (z.imp (fun w => Nat.le_trans hsz w) id) (by rcases z with w | w <;> omega)) (fun q z => z.2.2.2.2.2) (fun q z => z.2.2.2.2.2) ⟨by omega, by omega⟩ hMv hVz (mc := uC cs M - uC c9 M + N + 3) (ms := uS cs M - uS c9 M + 8 * N + 60) (by rw [← hc8]; omega) (by rw [← hc8]; omega)) (lw_V q884 q886 qs15 q32 q887) (zrecv cx hx1 rfl) (by decide +kernel) rfl (rest := [.ref vy, .ref ye, .int (iI p0), .ref tt, .ref tt]) rfl hl (Nat.le_of_ble_eq_true rfl) (by decide) (by omega) dX1_keep_78 hS (fun q h => by rcases h with h | h; exact Or.inl (Nat.le_trans hS.1 h); exact AC.r g4 h (hm9 q h)) (fun v78 H locs hp78 hz9 hk9 hS => ?_)
          obtain ⟨vl, rfl, hgl, hW, hHR9⟩ := hp78
          have kr : ∀ q : Nat, q < _ → q ∉ rs → H[q]? = _ := fun q h1 h2 => hk9 q h1 (by rintro (z | z); exact absurd h1 (Nat.not_lt.mpr z); exact h2 z)
          have kp1 : Kp (PC G x tp th ed (as ++ [tt]) rs) _ (PC G x tp th ed (as ++ [tt]) rs) H := fun q h1 h2 => ⟨h2, kr q h1 h2.2.2.2.2.2⟩
          have hxr : x ∉ rs := fun z => (g4.rcl x z).ne hx0.cl cx.kk rfl rfl
          have hthr : th ∉ rs := fun z => (g4.rcl th z).ne g2.cl cx.kk rfl rfl
          have htpr : tp ∉ rs := fun z => (g4.rcl tp z).ne g1.cl cx.kk rfl rfl
          have hedr : ed ∉ rs := fun z => g3.ne cx.kk (g4.rcl ed z) (hm9 ed z) rfl rfl
          have har : ∀ a ∈ as, a ∉ rs := fun a ha z => by obtain ⟨t, ht⟩ := g6.get ha; exact (g4.rcl a z).ne ht.cl cx.kk rfl rfl
          have httr : tt ∉ rs := fun z => by have := hb1 tt z; omega
          have hx1 := hx1.kept (kr x hx1.lt hxr)
          have hth := hthz.kept (kr th hthz.lt hthr)
          have htp := htpz.kept (kr tp htpz.lt htpr)
          have hed := hedz.kept (fun h1 hb => kr ed h1 hedr)
          have hO7 := hO7.kept (kr tt hO7.lt httr)
          have hCw := hCwz.kp cx.kk.1 kp1
          have hC := hCz.kp (P' := fun q => (PC G x tp th ed (as ++ [tt]) rs) q ∧ q < Hb.size) cx.kk.1 (fun q h1 h2 => ⟨h2, kr q h1 h2.1.2.2.2.2.2⟩) (fun a ha => kr a (by have := hb3 a ha; omega) (har a ha))
          have hHn := hHnz.kp cx.kk.1 kp1 (fun r hr => kr r (by have := hb2 r hr; omega) (hrr r hr))
          have hCt := hCtz.kp cx.kk.1 kp1
          have hV := hVz.kp cx.kk.1 kp1
          have hy := hyz.kp kp1
          rw [← hc8] at hHR9
          have hvl9 : Hb.size ≤ vl := Nat.le_trans hsz hgl
          have hRB : RB G (PC G x tp th ed (as ++ [tt]) rs) H rq wi ye vy vl co rs as M c9 (ctL (vof (gReq g) nCc)) (gTs g) K := by
            refine ⟨hHR9, hCw, hC.weak cx.kk.1 (fun q z => ⟨z.1, fun e => by have := z.2; omega, fun e => by have := z.2; omega⟩), ?_, ?_, ?_, ?_⟩
            · rw [hK]; show St G _ H ye ((etg (rdX g)).getD []); rw [etg_getD]; exact hy
            · rw [hK]; exact hV
            · rw [hK]; show LSt G _ H vl ((kVs (gReq g) (kVy (rdX g))).map lsO); rw [← lsO_kVs (gReq g) hM]; exact hW
            · rw [hK]; exact hCt
          have hxtt : x ≠ tt := by omega
          have hthtt : th ≠ tt := by have := ht8.lt; omega
          have htptt : tp ≠ tt := by have := hp8.lt; omega
          have hedtt : G.2.heap.size ≤ ed → ed ≠ tt := fun hb => by have := hel hb; omega
          clear hk9 hz9 kr kp1 hHRz hCwz hCz hHnz hVz hCtz hyz hthz htpz hedz hHR9 hCw hC hCt hV hy hW
          refine z_callI cx (j := 4) (m_X7_init G l _ tt ye vy vl p0 hO7 (mc := 0) (ms := 0)) (lw_meth q890) q60 q888 q889 rfl (by decide +kernel) rfl (rest := [.ref tt]) rfl hl (Nat.le_of_ble_eq_true rfl) (by decide) (by omega) dX1_keep_81 hS (fun q h => by rcases h with h | h; exact Or.inl (Nat.le_trans hS.1 h); exact h ▸ hAg) (fun H locs hp81 hz9 hk9 hS => ?_)
          have hO7 := hp81
          have kf : ∀ q : Nat, q < _ → q ≠ tt → H[q]? = _ := fun q h1 h2 => hk9 q h1 (by rintro (z | z); exact absurd h1 (Nat.not_lt.mpr z); exact h2 z)
          have kpt : Kp (PC G x tp th ed (as ++ [tt]) rs) _ (PC G x tp th ed (as ++ [tt]) rs) H := fun q h1 h2 => ⟨h2, kf q h1 (hZt q h2)⟩
          have hatt : ∀ a ∈ as, a ≠ tt := fun a ha => by have := hb3 a ha; omega
          have hrtt : ∀ r ∈ rs, r ≠ tt := fun r hr => by have := hb1 r hr; omega
          have hr9tt : ∀ r ∈ rs9, r ≠ tt := fun r hr => by have := hb2 r hr; omega
          have hx1 := hx1.kept (kf x hx1.lt hxtt)
          have hth := hth.kept (kf th hth.lt hthtt)
          have htp := htp.kept (kf tp htp.lt htptt)
          have hed := hed.kept (fun h1 hb => kf ed h1 (hedtt hb))
          have hHn := hHn.kp cx.kk.1 kpt (fun r hr => kf r (hHn.rcl r hr).lt (hr9tt r hr))
          have hRB := hRB.kp cx.kk.1 kpt (fun r hr => kf r (hRB.1.rcl r hr).lt (hrtt r hr)) (fun a ha => by obtain ⟨t, ht⟩ := hRB.2.2.1.get ha; exact kf a ht.lt (hatt a ha))
          clear hk9 hz9 kf kpt
          refine lv_astore (lv' := [(5, .ref tt), (0, .ref x), (1, .int (iI p0)), (2, .ref h9), (3, .ref co), (4, .ref vy)]) hx hb dX1_keep_84 hl (by decide) rfl (fun ls hl => ?_)
          refine lv_aload hx hb dX1_keep_86 (lv_at hl 0 rfl) ?_
          refine lv_aload_n hx hb dX1_keep_88 rfl (lv_at hl 4 rfl) ?_
          refine lv_aload_n hx hb dX1_keep_89 rfl (lv_at hl 3 rfl) ?_
          refine lv_aload_n hx hb dX1_keep_90 rfl (lv_at hl 1 rfl) ?_
          refine z_get cx (k0 := 6) hx1 rfl in_X1 (by decide) q678 rfl rfl dX1_keep_91 ?_
          refine z_callVv cx (j := 3) (m_X7_tell G l _ (PC G x tp th ed (as ++ [tt]) rs) tt co h9 rs9 (mrg (rdX g)) cs9 (ctL (tCc K)) (gTime g) (.int (iI p0)) (.ref ye) (.ref vy) (.ref vl) .null (.int (iI 0)) (.int (iI 0)) (.int (iI 0)) (.int (iI 0)) (hB.ofS hS hBA) (by omega) hO7 hRB.2.2.2.2.2.2 hHn (fun q z => hZt q z) (ctL_v _) (by omega) (mc := 0) (ms := 0)) (lw_V q926 q927 q928 q60 q929) (zrecv cx hO7 rfl) (by decide +kernel) rfl (rest := []) rfl hl (Nat.le_of_ble_eq_true rfl) (by decide) (by omega) dX1_keep_94 hS (fun q h => by rcases h with h | h; exact Or.inl (Nat.le_trans hS.1 h); exact h ▸ hAg) (fun H locs hp94 hz9 hk9 hS => ?_)
          have hO7 := hp94
          rw [lifeX_eq, ageX_eq] at hO7
          have hO7 : Ob G H tt 4 [.int (iI (tPath K)), .ref ye, .ref vy, .ref vl, .ref co, .int (iI (tLife K)), .int (iI (tAge K)), .int (iI (gTime g)), .int (iI 0)] := by rw [hK] at hO7 ⊢; exact hO7
          have kf : ∀ q : Nat, q < _ → q ≠ tt → H[q]? = _ := fun q h1 h2 => hk9 q h1 (by rintro (z | z); exact absurd h1 (Nat.not_lt.mpr z); exact h2 z)
          have kpt : Kp (PC G x tp th ed (as ++ [tt]) rs) _ (PC G x tp th ed (as ++ [tt]) rs) H := fun q h1 h2 => ⟨h2, kf q h1 (hZt q h2)⟩
          have hx1 := hx1.kept (kf x hx1.lt hxtt)
          have hth := hth.kept (kf th hth.lt hthtt)
          have htp := htp.kept (kf tp htp.lt htptt)
          have hed := hed.kept (fun h1 hb => kf ed h1 (hedtt hb))
          have hRB := hRB.kp cx.kk.1 kpt (fun r hr => kf r (hRB.1.rcl r hr).lt (hrtt r hr)) (fun a ha => by obtain ⟨t, ht⟩ := hRB.2.2.1.get ha; exact kf a ht.lt (hatt a ha))
          clear hk9 hz9 kf kpt hHn hE0 hr9tt
          have hxth : x ≠ th := hx0.cl.ne g2.cl cx.kk rfl
          have hxed : ed ≠ x := g3.ne cx.kk hx0.cl hm5 rfl
          have htpth : tp ≠ th := g1.cl.ne g2.cl cx.kk rfl
          have htped : ed ≠ tp := g3.ne cx.kk g1.cl hm6 rfl
          have hnth : ∀ r ∈ rs, r ≠ th := fun r hr e => hthr (e ▸ hr)
          have hned : ∀ r ∈ rs, r ≠ ed := fun r hr e => hedr (e ▸ hr)
          have hath : ∀ a ∈ as, a ≠ th := fun a ha => by obtain ⟨t, ht⟩ := g6.get ha; exact ht.cl.ne g2.cl cx.kk rfl
          have hax : ∀ a ∈ as, a ≠ x := fun a ha => by obtain ⟨t, ht⟩ := g6.get ha; exact ht.cl.ne hx0.cl cx.kk rfl
          have haed : ∀ a ∈ as, ed ≠ a := fun a ha => by obtain ⟨t, ht⟩ := g6.get ha; exact g3.ne cx.kk ht.cl (hm8 a ha) rfl
          have htted : G.2.heap.size ≤ tt → tt ≠ ed := fun hb e => hedtt (e ▸ hb) e.symm
          have hpK : tPath K = p0 := by rw [hK]; rfl
          have hfin : ∀ (H1 : Heap) (mz : Int) (bs : List Nat) (us : List Th) (d cap9 : Nat) (u9 : Nat), bs.Nodup → (∀ a ∈ bs, a ∈ as ++ [tt]) → us.length ≤ 24 → cap9 ≤ 100 → u9 < 100000 → Ob G H1 x 0 [.ref tp, .ref th, .ref rq, .ref wi, .int (iI 0), .int (iI (rdT (gTape g)).1), .int (iI (gTime g)), .int (iI (u9 : Int))] → Ob G H1 th 8 [.int (iI mz), .ref d, .int (iI (bs.length : Int))] → EDok G H1 d bs cap9 → Ai G H1 tp 100 (gTape g ++ pad) → HR G (PC G x tp th d bs rs) H1 rq rs M c9 → Ct G (PC G x tp th d bs rs) H1 wi (ctL (vof (gReq g) nCc)) → CTs G (PC G x tp th d bs rs) H1 bs us → RepC G H1 x c9 ([], -1, gTime g, gReq g, us, u9) := fun H1 mz bs us d cap9 u9 n1 n2 n3 n4 n5 f1 f3 f4 f2 f5 f6 f7 => by
            rw [hrd.1] at f1
            rw [hM] at f5
            refine ⟨tp, th, d, cap9, rq, wi, mz, bs, rs, gTape g ++ pad, f1, ⟨f2, f3, f4, f5, f6, f7⟩, ⟨⟨?_, ?_⟩, n4, n1, hm4, hm5, hm6, hm7, ?_, hm9⟩, ⟨chs_nil, Nat.zero_le _, by show -1 ≤ (-1 : Int) ∧ (-1 : Int) ≤ 300; decide, hok.2.2.2.1, n3, n5⟩, ?_⟩
            · show 0 + (gTape g ++ pad).length = 300
              rw [List.length_append, Nat.zero_add]; exact hm1
            · intro c hc
              rcases List.mem_append.mp hc with z | z
              · exact hok.1 c z
              · exact hpd c z
            · intro a ha
              rcases List.mem_append.mp (n2 a ha) with z | z
              · exact hm8 a z
              · rw [List.mem_singleton.mp z]; omega
            · show tsz (mrg (gReq g)) ≤ 300
              rw [← hM]; exact htz
          have l246 : ∀ (fuel : Nat) (mz : Int) (bs : List Nat) (us : List Th), 0 < fuel → (bs.Nodup ∧ (∀ a ∈ bs, a ∈ as) ∧ bs.length ≤ 23) → (kTs3 g p0 = us ++ [useT K (gUse g + 1)]) → (kMay g p0 = true) → ∀ (H : Heap) (locs : List Loc) (ls : Array Slot) (k n : Nat), va_S (AC G H0) H0 H locs → Ob G H x 0 [.ref tp, .ref th, .ref rq, .ref wi, .int (iI 0), .int (iI ((rdT (gTape g)).1)), .int (iI (gTime g)), .int (iI (gUse g : Int))] → Ob G H th 8 [.int (iI mz), .ref ed, .int (iI ↑bs.length)] → EDok G H ed bs cap → Ai G H tp 100 (gTape g ++ pad) → Ob G H tt 4 [.int (iI (tPath K)), .ref ye, .ref vy, .ref vl, .ref co, .int (iI (tLife K)), .int (iI (tAge K)), .int (iI (gTime g)), .int (iI 0)] → (RB G (PC G x tp th ed (as ++ [tt]) rs) H rq wi ye vy vl co rs bs M c9 (ctL (vof (gReq g) nCc)) us K) → (k + 5 ≤ mc) → (n + 100 ≤ ms) → lv_has ls 7 [(0, .ref x), (5, .ref tt)] → W p l e ⟨20, mc, ms, 455⟩ s m args below meth c H locs k n Q (F0 m 246 ls []) := by
            intro fuel
            induction fuel with
            | zero => intro mz bs us hf9; exact absurd hf9 (Nat.not_lt_zero _)
            | succ fuel ih_l246 =>
              intro mz bs us hf9 hmb hk3 hmay H locs ls k n hS hx1 hth hed htp hO7 hRB hr1 hr2 hl
              have hbl := hRB.2.2.1.1
              have hsub : ∀ b ∈ bs ++ [tt], b ∈ as ++ [tt] := fun b hb => (List.mem_append.mp hb).elim (fun z => List.mem_append_left _ (hmb.2.1 b z)) (fun z => List.mem_append_right _ z)
              have htb9 : tt ∉ bs := fun z => hatt tt (hmb.2.1 tt z) rfl
              refine lv_aload_n hx hb dX1_keep_246 rfl (lv_at hl 0 rfl) ?_
              refine lv_aload hx hb dX1_keep_247 (lv_at hl 1 rfl) ?_
              refine z_callVv cx (j := 1) (m_X1_use G l _ x tt (gUse g : Int) (.ref tp) (.ref th) (.ref rq) (.ref wi) (.int (iI 0)) (.int (iI (rdT (gTape g)).1)) (.int (iI (gTime g))) (.int (iI (tPath K))) (.ref ye) (.ref vy) (.ref vl) (.ref co) (.int (iI (tLife K))) (.int (iI (tAge K))) (.int (iI (gTime g))) (.int (iI 0)) hx1 hO7 (mc := 0) (ms := 0)) (lw_V q863 q865 qs14 q32 q866) (zrecv cx hx1 rfl) (by decide +kernel) rfl (rest := []) rfl hl (Nat.le_of_ble_eq_true rfl) (by decide) (by omega) dX1_keep_249 hS (fun q h => by rcases h with h | h | h; exact Or.inl (Nat.le_trans hS.1 h); exact h ▸ hAx; exact h ▸ hAg) (fun H locs hp249 hz9 hk9 hS => ?_)
              obtain ⟨hx1, hO7⟩ := hp249
              have kr : ∀ q : Nat, q < _ → q ≠ x → q ≠ tt → H[q]? = _ := fun q h1 h2 h3 => hk9 q h1 (by rintro (z | z | z); exact absurd h1 (Nat.not_lt.mpr z); exact h2 z; exact h3 z)
              have kp1 : Kp (PC G x tp th ed (as ++ [tt]) rs) _ (PC G x tp th ed (as ++ [tt]) rs) H := fun q h1 h2 => ⟨h2, kr q h1 h2.1 (hZt q h2)⟩
              have hth := hth.kept (kr th hth.lt hxth.symm hthtt)
              have htp := htp.kept (kr tp htp.lt (g1.cl.ne hx0.cl cx.kk rfl) htptt)
              have hed := hed.kept (fun h1 hb => kr ed h1 hxed (hedtt hb))
              have hRB := hRB.kp cx.kk.1 kp1 (fun r hr => kr r (hRB.1.rcl r hr).lt (fun e => hxr (e ▸ hr)) (hrtt r hr)) (fun a ha => by obtain ⟨t, ht⟩ := hRB.2.2.1.get ha; exact kr a ht.lt (hax a (hmb.2.1 a ha)) (hatt a (hmb.2.1 a ha)))
              clear hk9 hz9 kr kp1
              refine lv_aload_n hx hb dX1_keep_252 rfl (lv_at hl 0 rfl) ?_
              refine z_get cx (k0 := 1) hx1 rfl in_X1 (by decide) q673 rfl rfl dX1_keep_253 ?_
              refine lv_aload hx hb dX1_keep_256 (lv_at hl 1 rfl) ?_
              have hgrc := gr_or cap
              refine z_callV cx (j := 1) (m_J2_add G l _ th ed cap tt mz bs (hB.ofS hS hBA) hm7 hth hed (hRB.2.2.1.el cx.kk) (El.ob cx.kk hO7 rfl q1431) (by omega) (mc := 1) (ms := 40) (by split <;> omega) (by split <;> omega)) (lw_V q498 q499 q500 q35 q501) (zrecv cx hth rfl) (by decide +kernel) rfl (rest := []) rfl hl (Nat.le_of_ble_eq_true rfl) (by decide) (by omega) dX1_keep_258 hS (fun q h => by rcases h with h | h | h; exact Or.inl (Nat.le_trans hS.1 h); exact h ▸ hAth; exact h.2 ▸ hAed (h.2 ▸ h.1)) (fun v258 H locs hp258 hz9 hk9 hS => ?_)
              obtain ⟨rfl, d, hd, hth, hed⟩ := hp258
              have kp2 : Kp (PC G x tp th ed (as ++ [tt]) rs) _ (PC G x tp th d (bs ++ [tt]) rs) H := fun q h1 h2 => ⟨⟨h2.1, h2.2.1, h2.2.2.1, fun hb e => by
                rcases hd with z | z
                · exact h2.2.2.2.1 hb (e.trans z.1)
                · omega, fun z => h2.2.2.2.2.1 (hsub q z), h2.2.2.2.2.2⟩, kq_ne hk9 h1 h2.2.2.1 h2.2.2.2.1⟩
              have hx1 := hx1.kept (kq_ne hk9 hx1.lt hxth (fun _ => hxed.symm))
              have htp := htp.kept (kq_ne hk9 htp.lt htpth (fun _ => htped.symm))
              have hO7 := hO7.kept (kq_ne hk9 hO7.lt hthtt.symm htted)
              obtain ⟨j1, j2, j3, j4, j5, j6, j7⟩ := id hRB
              have hHR := j1.kp cx.kk.1 kp2 (fun r hr => kq_ne hk9 (j1.rcl r hr).lt (hnth r hr) (fun _ => hned r hr))
              have hCw := j2.kp cx.kk.1 kp2
              have hC := (hRB.things cx.kk.1).kp cx.kk.1 kp2 (fun a ha => by obtain ⟨t, ht⟩ := j3.get ha; exact kq_ne hk9 ht.lt (hath a (hmb.2.1 a ha)) (fun _ => (haed a (hmb.2.1 a ha)).symm))
              have hnew : CTh G (PC G x tp th d (bs ++ [tt]) rs) H tt (useT K (gUse g + 1)) := ⟨useT_ok hKok (by omega), ye, vy, vl, co, by rw [hK] at hO7 ⊢; exact hO7, j4.kp kp2, j5.kp cx.kk.1 kp2, j6.kp cx.kk.1 kp2, j7.kp cx.kk.1 kp2⟩
              have hC := hC.snoc hnew
              have e4 : bs.length + 1 = (bs ++ [tt]).length := by rw [List.length_append, List.length_singleton]
              rw [e4] at hth
              have hSe : keepS g p0 = ([], -1, gTime g, gReq g, us ++ [useT K (gUse g + 1)], gUse g + 1) := by rw [keepS, if_pos hmay, hk3]
              refine lv_pop hx hb dX1_keep_261 rfl ?_
              refine lv_iconst (v := iI (1)) hx hb dX1_keep_262 rfl ?_
              subst hQ
              exact vx_ret (z_iret cx rfl rfl rfl (⟨hrd9, by rw [hmay]; rfl, by rw [← hc9, hSe]; exact hfin _ _ _ _ d _ (gUse g + 1) (nd_snoc hmb.1 htb9) hsub (by rw [List.length_append, List.length_singleton]; omega) (by split <;> omega) (by omega) hx1 hth hed htp hHR hCw hC⟩) hS (by omega) dX1_keep_263)
          have l222 : ∀ (fuel : Nat) (mz : Int) (bs : List Nat) (us : List Th), 0 < fuel → (bs.Nodup ∧ (∀ a ∈ bs, a ∈ as) ∧ bs.length ≤ 24) → (us = kTs1 g p0) → (kMay g p0 = true) → ∀ (H : Heap) (locs : List Loc) (ls : Array Slot) (k n : Nat), va_S (AC G H0) H0 H locs → Ob G H x 0 [.ref tp, .ref th, .ref rq, .ref wi, .int (iI 0), .int (iI ((rdT (gTape g)).1)), .int (iI (gTime g)), .int (iI (gUse g : Int))] → Ob G H th 8 [.int (iI mz), .ref ed, .int (iI ↑bs.length)] → EDok G H ed bs cap → Ai G H tp 100 (gTape g ++ pad) → Ob G H tt 4 [.int (iI (tPath K)), .ref ye, .ref vy, .ref vl, .ref co, .int (iI (tLife K)), .int (iI (tAge K)), .int (iI (gTime g)), .int (iI 0)] → (RB G (PC G x tp th ed (as ++ [tt]) rs) H rq wi ye vy vl co rs bs M c9 (ctL (vof (gReq g) nCc)) us K) → (k + 5 ≤ mc) → (n + 100 ≤ ms) → lv_has ls 7 [(0, .ref x), (5, .ref tt)] → W p l e ⟨20, mc, ms, 455⟩ s m args below meth c H locs k n Q (F0 m 222 ls []) := by
            intro fuel
            induction fuel with
            | zero => intro mz bs us hf9; exact absurd hf9 (Nat.not_lt_zero _)
            | succ fuel ih_l222 =>
              intro mz bs us hf9 hmb hus hmay H locs ls k n hS hx1 hth hed htp hO7 hRB hr1 hr2 hl
              have hbl := hRB.2.2.1.1
              refine lv_aload_n hx hb dX1_keep_222 rfl (lv_at hl 0 rfl) ?_
              refine z_get cx (k0 := 1) hx1 rfl in_X1 (by decide) q673 rfl rfl dX1_keep_223 ?_
              refine z_callV cx (j := 0) (m_J2_size G l _ th (bs.length : Int) (.int (iI mz)) (.ref ed) hth (mc := 0) (ms := 0)) (lw_V q710 q546 q547 q35 q548) (zrecv cx hth rfl) (by decide +kernel) rfl (rest := []) rfl hl (Nat.le_of_ble_eq_true rfl) (by decide) (by omega) dX1_keep_226 hS (fun q h => Or.inl (Nat.le_trans hS.1 h)) (fun v226 H locs hp226 hz9 hk9 hS => ?_)
              have hE9 := Ext.of hz9 hk9 (fun q h => h)
              have hx1 := hx1.ext hE9
              have hth := hth.ext hE9
              have hed := hed.ext hE9
              have htp := htp.ext hE9
              have hO7 := hO7.ext hE9
              subst hp226
              have hRB := hRB.ext cx.kk.1 hE9
              refine lv_bipush (v := iI (24)) hx hb dX1_keep_229 (by decide) ?_
              refine z_icmp_ne cx (tgt := 246) dX1_keep_231 (by decide) (by omega) (fun c231 => ?_) (fun c231 => ?_)
              · exact l246 _ mz bs us (Nat.lt_succ_self _) ⟨hmb.1, hmb.2.1, by omega⟩ (by rw [hK, hus]; exact kTs3_lt (by rw [← hus, ← hbl]; omega)) hmay _ _ _ _ _ hS hx1 hth hed htp hO7 hRB (by omega) (by omega) (lv_sub hl [0, 1] rfl)
              · have h24 : (kTs1 g p0).length = 24 := by rw [← hus, ← hbl]; omega
                obtain ⟨ho1, ho2⟩ := kTs3_eq h24 (fun t ht => hI2 t (kTs1_mem ht))
                obtain ⟨I, hI⟩ : ∃ i, i = oldI (kTs1 g p0) := ⟨_, rfl⟩
                rw [← hI] at ho1 ho2
                have hIb : I < bs.length := by omega
                obtain ⟨a9, ha9⟩ : ∃ w, bs[I]? = some w := ⟨_, List.getElem?_eq_getElem hIb⟩
                have hgd9 : bs.getD I 0 = a9 := by rw [List.getD_eq_getElem?_getD, ha9]; rfl
                obtain ⟨t9, ht9, hO9⟩ := hRB.2.2.1.at ha9
                obtain ⟨-, e0, v0, w0, co0, hOt, -⟩ := id hO9
                have e9 : lst1 (us.map tUsed) ((us.map tUsed).drop 1) 1 0 = I := by rw [hI, hus]
                refine lv_aload_n hx hb dX1_keep_234 rfl (lv_at hl 0 rfl) ?_
                refine z_get cx (k0 := 1) hx1 rfl in_X1 (by decide) q673 rfl rfl dX1_keep_235 ?_
                refine lv_aload_n hx hb dX1_keep_238 rfl (lv_at hl 0 rfl) ?_
                refine z_callV cx (j := 0) (m_X1_oldest G l _ _ x th ed cap (.ref tp) (.ref rq) (.ref wi) (.int (iI 0)) (.int (iI (rdT (gTape g)).1)) (.int (iI (gTime g))) (.int (iI (gUse g : Int))) (.int (iI mz)) bs us hx1 hth hed hRB.2.2.1 ⟨by omega, by omega⟩ (mc := 0) (ms := 0)) (lw_V q1078 q1080 qs18 q32 q1081) (zrecv cx hx1 rfl) (by decide +kernel) rfl (rest := [.ref th]) rfl hl (Nat.le_of_ble_eq_true rfl) (by decide) (by omega) dX1_keep_239 hS (fun q h => Or.inl (Nat.le_trans hS.1 h)) (fun v239 H locs hp239 hz9 hk9 hS => ?_)
                have hE9 := Ext.of hz9 hk9 (fun q h => h)
                have hx1 := hx1.ext hE9
                have hth := hth.ext hE9
                have hed := hed.ext hE9
                have htp := htp.ext hE9
                have hO7 := hO7.ext hE9
                subst hp239
                have hRB := hRB.ext cx.kk.1 hE9
                have hOt := hOt.ext hE9
                rw [e9, hgd9]
                have ht7 := hth
                have he7 := hed
                refine z_callV cx (j := 1) (m_J2_remove_2 G l _ th ed cap I a9 mz bs _ (hB.ofS hS hBA) hm7 hth hed (hRB.2.2.1.el cx.kk) ⟨hIb, by omega⟩ hOt ha9 (fun j hj z => nodup_ne hmb.1 ha9 z (by omega) rfl) (mc := 0) (ms := 0)) (lw_V q1082 q1083 q1084 q35 q1085) (zrecv cx hth rfl) (by decide +kernel) rfl (rest := []) rfl hl (Nat.le_of_ble_eq_true rfl) (by decide) (by omega) dX1_keep_242 hS (fun q h => by rcases h with h | h | h; exact Or.inl (Nat.le_trans hS.1 h); exact h ▸ hAth; exact h.2 ▸ hAed (h.2 ▸ h.1)) (fun v242 H locs hp242 hz9 hk9 hS => ?_)
                obtain ⟨rfl, hth, hed⟩ := hp242
                have hx1 := hx1.kept (kq_ne hk9 hx1.lt hxth (fun _ => hxed.symm))
                have htp := htp.kept (kq_ne hk9 htp.lt htpth (fun _ => htped.symm))
                have hO7 := hO7.kept (kq_ne hk9 hO7.lt hthtt.symm htted)
                have hRB := (hRB.kl cx.kk ht7.cl he7 hm9 (fun a ha => hm8 a (hmb.2.1 a ha)) hk9).rm I
                have hrl : (rmi bs I).length = bs.length - 1 := rmi_len hIb
                rw [← hrl] at hth
                refine lv_pop hx hb dX1_keep_245 rfl ?_
                exact l246 _ (mz + 1) (rmi bs I) (rmi us I) (Nat.lt_succ_self _) ⟨hmb.1.sublist (rmi_sub _ _), fun b hb => hmb.2.1 b (rmi_mem hb), by omega⟩ (by rw [ho2, hus, hK]) hmay _ _ _ _ _ hS hx1 hth hed htp hO7 hRB (by omega) (by omega) (lv_sub hl [0, 1] rfl)
          have l220 : ∀ (fuel : Nat) (mz : Int) (bs : List Nat) (us : List Th), 0 < fuel → (bs.Nodup ∧ (∀ a ∈ bs, a ∈ as) ∧ bs.length ≤ 24) → (us = kTs1 g p0) → (kMay g p0 = false) → ∀ (H : Heap) (locs : List Loc) (ls : Array Slot) (k n : Nat), va_S (AC G H0) H0 H locs → Ob G H x 0 [.ref tp, .ref th, .ref rq, .ref wi, .int (iI 0), .int (iI ((rdT (gTape g)).1)), .int (iI (gTime g)), .int (iI (gUse g : Int))] → Ob G H th 8 [.int (iI mz), .ref ed, .int (iI ↑bs.length)] → EDok G H ed bs cap → Ai G H tp 100 (gTape g ++ pad) → Ob G H tt 4 [.int (iI (tPath K)), .ref ye, .ref vy, .ref vl, .ref co, .int (iI (tLife K)), .int (iI (tAge K)), .int (iI (gTime g)), .int (iI 0)] → (RB G (PC G x tp th ed (as ++ [tt]) rs) H rq wi ye vy vl co rs bs M c9 (ctL (vof (gReq g) nCc)) us K) → (k + 5 ≤ mc) → (n + 100 ≤ ms) → lv_has ls 7 [(0, .ref x)] → W p l e ⟨20, mc, ms, 455⟩ s m args below meth c H locs k n Q (F0 m 220 ls []) := by
            intro fuel
            induction fuel with
            | zero => intro mz bs us hf9; exact absurd hf9 (Nat.not_lt_zero _)
            | succ fuel ih_l220 =>
              intro mz bs us hf9 hmb hus hmay H locs ls k n hS hx1 hth hed htp hO7 hRB hr1 hr2 hl
              obtain ⟨j1, j2, j3, -⟩ := id hRB
              have hbl := j3.1
              have hsub : ∀ b ∈ bs, b ∈ as ++ [tt] := fun b hb => List.mem_append_left _ (hmb.2.1 b hb)
              have hw := PC.sub (G := G) (x := x) (tp := tp) (th := th) (ed := ed) (rs := rs) hsub
              have hSe : keepS g p0 = ([], -1, gTime g, gReq g, us, gUse g) := by rw [keepS, if_neg (by rw [hmay]; decide), hus]
              refine lv_iconst (v := iI (0)) hx hb dX1_keep_220 rfl ?_
              subst hQ
              exact vx_ret (z_iret cx rfl rfl rfl (⟨hrd9, by rw [hmay]; rfl, by rw [← hc9, hSe]; exact hfin _ _ _ _ ed cap (gUse g) hmb.1 hsub (by omega) hm2 (by omega) hx1 hth hed htp (j1.weak cx.kk.1 hw) (j2.weak cx.kk.1 hw) ((hRB.things cx.kk.1).weak cx.kk.1 hw)⟩) hS (by omega) dX1_keep_221)
          have hlf := hKok.2.2.2.2.2.2.1
          have hte : tEtag K = (etg (rdX g)).getD [] := by rw [hK]; rfl
          have l194 : ∀ (fuel : Nat) (mz : Int) (bs : List Nat) (us : List Th) (b : Bool), 0 < fuel → (bs.Nodup ∧ (∀ a ∈ bs, a ∈ as) ∧ bs.length ≤ 24) → (us = kTs1 g p0) → (b = (!hasW (tCc K) nNs && !hasW (tCc K) nPriv && !star (tVary K) && !hasW (vof (gReq g) nCc) nNs)) → ∀ (H : Heap) (locs : List Loc) (ls : Array Slot) (k n : Nat), va_S (AC G H0) H0 H locs → Ob G H x 0 [.ref tp, .ref th, .ref rq, .ref wi, .int (iI 0), .int (iI ((rdT (gTape g)).1)), .int (iI (gTime g)), .int (iI (gUse g : Int))] → Ob G H th 8 [.int (iI mz), .ref ed, .int (iI ↑bs.length)] → EDok G H ed bs cap → Ai G H tp 100 (gTape g ++ pad) → Ob G H tt 4 [.int (iI (tPath K)), .ref ye, .ref vy, .ref vl, .ref co, .int (iI (tLife K)), .int (iI (tAge K)), .int (iI (gTime g)), .int (iI 0)] → (RB G (PC G x tp th ed (as ++ [tt]) rs) H rq wi ye vy vl co rs bs M c9 (ctL (vof (gReq g) nCc)) us K) → (k + 5 ≤ mc) → (n + 100 ≤ ms) → lv_has ls 7 [(0, .ref x), (5, .ref tt)] → W p l e ⟨20, mc, ms, 455⟩ s m args below meth c H locs k n Q (F0 m 194 ls [.int (iI (b2i b))]) := by
            intro fuel
            induction fuel with
            | zero => intro mz bs us b hf9; exact absurd hf9 (Nat.not_lt_zero _)
            | succ fuel ih_l194 =>
              intro mz bs us b hf9 hmb hus hb1 H locs ls k n hS hx1 hth hed htp hO7 hRB hr1 hr2 hl
              have hmy : kMay g p0 = (b && (decide (0 < tLife K) || decide (etg (rdX g) ≠ none))) := by rw [hb1, hK]; rfl
              have hrb := b2i_rg b
              refine lv_istore (lv' := [(6, .int (iI (b2i b))), (0, .ref x), (5, .ref tt)]) hx hb dX1_keep_194 hl (by decide) rfl (fun ls hl => ?_)
              refine lv_iload hx hb dX1_keep_196 (lv_at hl 0 rfl) ?_
              refine z_if_eq cx (tgt := 220) dX1_keep_198 (by decide) (by omega) (fun c198 => ?_) (fun c198 => ?_)
              · have hb0 := b2i_eq0 c198
                exact l220 _ mz bs us (Nat.lt_succ_self _) hmb hus (by rw [hmy, hb0]; rfl) _ _ _ _ _ hS hx1 hth hed htp hO7 hRB (by omega) (by omega) (lv_sub hl [1] rfl)
              · have hb0 := b2i_ne0 c198
                refine lv_aload hx hb dX1_keep_201 (lv_at hl 2 rfl) ?_
                refine z_getN cx (k0 := 5) hO7 rfl in_X7 (by decide) q903 rfl rfl dX1_keep_203 ?_
                refine z_if_ne cx (tgt := 222) dX1_keep_206 (by decide) (by omega) (fun c206 => ?_) (fun c206 => ?_)
                · exact l222 _ mz bs us (Nat.lt_succ_self _) hmb hus (by rw [hmy, hb0, decide_eq_true (by omega : 0 < tLife K)]; rfl) _ _ _ _ _ hS hx1 hth hed htp hO7 hRB (by omega) (by omega) (lv_sub hl [1, 2] rfl)
                · obtain ⟨-, -, hel9, b8, -, hs8, -⟩ := id hRB.2.2.2.1
                  refine lv_aload hx hb dX1_keep_209 (lv_at hl 2 rfl) ?_
                  refine z_getN cx (k0 := 1) hO7 rfl in_X7 (by decide) q895 rfl rfl dX1_keep_211 ?_
                  refine z_callV cx (j := 0) (m_J5_length G l _ _ ye (tEtag K) (hB.ofS hS hBA) hRB.2.2.2.1 (mc := 0) (ms := 0)) (lw_V q156 q157 q158 q40 q159) (zrecvS cx hs8) (by decide +kernel) rfl (rest := []) rfl hl (Nat.le_of_ble_eq_true rfl) (by decide) (by omega) dX1_keep_214 hS (fun q h => Or.inl (Nat.le_trans hS.1 h)) (fun v214 H locs hp214 hz9 hk9 hS => ?_)
                  have hE9 := Ext.of hz9 hk9 (fun q h => h)
                  have hx1 := hx1.ext hE9
                  have hth := hth.ext hE9
                  have hed := hed.ext hE9
                  have htp := htp.ext hE9
                  have hO7 := hO7.ext hE9
                  have hs8 := hs8.ext hE9
                  subst hp214
                  have hRB := hRB.ext cx.kk.1 hE9
                  refine z_if_ne cx (tgt := 222) dX1_keep_217 (by decide) (by omega) (fun c217 => ?_) (fun c217 => ?_)
                  · have hne : etg (rdX g) ≠ none := fun z => by
                      have := (etg_len (rdX g)).mpr z
                      rw [← hte] at this
                      omega
                    exact l222 _ mz bs us (Nat.lt_succ_self _) hmb hus (by rw [hmy, hb0, decide_eq_true hne, Bool.or_true]; rfl) _ _ _ _ _ hS hx1 hth hed htp hO7 hRB (by omega) (by omega) (lv_sub hl [1, 2] rfl)
                  · have hno : etg (rdX g) = none := (etg_len (rdX g)).mp (by rw [← hte]; omega)
                    exact l220 _ mz bs us (Nat.lt_succ_self _) hmb hus (by rw [hmy, hb0, decide_eq_false (by omega : ¬ 0 < tLife K), decide_eq_false (fun z => z hno)]; rfl) _ _ _ _ _ hS hx1 hth hed htp hO7 hRB (by omega) (by omega) (lv_sub hl [1] rfl)
          have l149 : ∀ (fuel : Nat) (mz : Int) (bs : List Nat) (us : List Th), 0 < fuel → (bs.Nodup ∧ (∀ a ∈ bs, a ∈ as) ∧ bs.length ≤ 24) → (us = kTs1 g p0) → ∀ (H : Heap) (locs : List Loc) (ls : Array Slot) (k n : Nat), va_S (AC G H0) H0 H locs → Ob G H x 0 [.ref tp, .ref th, .ref rq, .ref wi, .int (iI 0), .int (iI ((rdT (gTape g)).1)), .int (iI (gTime g)), .int (iI (gUse g : Int))] → Ob G H th 8 [.int (iI mz), .ref ed, .int (iI ↑bs.length)] → EDok G H ed bs cap → Ai G H tp 100 (gTape g ++ pad) → Ob G H tt 4 [.int (iI (tPath K)), .ref ye, .ref vy, .ref vl, .ref co, .int (iI (tLife K)), .int (iI (tAge K)), .int (iI (gTime g)), .int (iI 0)] → (RB G (PC G x tp th ed (as ++ [tt]) rs) H rq wi ye vy vl co rs bs M c9 (ctL (vof (gReq g) nCc)) us K) → (k + 5 ≤ mc) → (n + 100 ≤ ms) → lv_has ls 7 [(0, .ref x), (3, .ref co), (4, .ref vy), (5, .ref tt)] → W p l e ⟨20, mc, ms, 455⟩ s m args below meth c H locs k n Q (F0 m 149 ls []) := by
            intro fuel
            induction fuel with
            | zero => intro mz bs us hf9; exact absurd hf9 (Nat.not_lt_zero _)
            | succ fuel ih_l149 =>
              intro mz bs us hf9 hmb hus H locs ls k n hS hx1 hth hed htp hO7 hRB hr1 hr2 hl
              obtain ⟨-, nl0, ul0, hc8x, -⟩ := id hRB.2.2.2.2.2.2
              obtain ⟨-, nl1, ul1, hwi8, -⟩ := id hRB.2.1
              obtain ⟨edv, rsv, capv, mzv, -, hv2, hv3, -, hv5, hv6⟩ := id hRB.2.2.2.2.1
              refine lv_aload_n hx hb dX1_keep_149 rfl (lv_at hl 1 rfl) ?_
              obtain ⟨la150, ltx, lR, lS150⟩ := lit_X1_230 cx.kk.1
              refine z_ldcS cx lR dX1_keep_150 ?_
              refine z_callV cx (j := 1) (m_X3_has G l _ (PC G x tp th ed (as ++ [tt]) rs) (Old G) co la150 (ctL (tCc K)) nNs (hB.ofS hS hBA) hRB.2.2.2.2.2.2 (lS150.old (hB.ofS hS hBA)) (mc := 0) (ms := 0)) (lw_V q833 q834 q835 q37 q836) (zrecv cx hc8x rfl) (by decide +kernel) rfl (rest := []) rfl hl (Nat.le_of_ble_eq_true rfl) (by decide) (by omega) dX1_keep_152 hS (fun q h => Or.inl (Nat.le_trans hS.1 h)) (fun v152 H locs hp152 hz9 hk9 hS => ?_)
              have hE9 := Ext.of hz9 hk9 (fun q h => h)
              have hx1 := hx1.ext hE9
              have hth := hth.ext hE9
              have hed := hed.ext hE9
              have htp := htp.ext hE9
              have hO7 := hO7.ext hE9
              have hc8x := hc8x.ext hE9
              have hwi8 := hwi8.ext hE9
              have hv2 := hv2.ext hE9
              have hb152 := b2i_rg (decide (ctF (ctL (tCc K)) nNs ≠ -1))
              subst hp152
              have hRB := hRB.ext cx.kk.1 hE9
              rw [ctL_has]
              have hr1 := b2i_rg (hasW (tCc K) nNs)
              refine z_if_ne cx (tgt := 193) dX1_keep_155 (by decide) (by omega) (fun c155 => ?_) (fun c155 => ?_)
              · have hf := b2i_ne0 c155
                refine lv_iconst (v := iI (0)) hx hb dX1_keep_193 rfl ?_
                exact l194 _ mz bs us false (Nat.lt_succ_self _) hmb hus (by rw [hf]; rfl) _ _ _ _ _ hS hx1 hth hed htp hO7 hRB (by omega) (by omega) (lv_sub hl [0, 3] rfl)
              · have hf1 := b2i_eq0 c155
                refine lv_aload_n hx hb dX1_keep_158 rfl (lv_at hl 1 rfl) ?_
                obtain ⟨la159, ltx, lR, lS159⟩ := lit_X1_232 cx.kk.1
                refine z_ldcS cx lR dX1_keep_159 ?_
                refine z_callV cx (j := 1) (m_X3_has G l _ (PC G x tp th ed (as ++ [tt]) rs) (Old G) co la159 (ctL (tCc K)) nPriv (hB.ofS hS hBA) hRB.2.2.2.2.2.2 (lS159.old (hB.ofS hS hBA)) (mc := 0) (ms := 0)) (lw_V q833 q834 q835 q37 q836) (zrecv cx hc8x rfl) (by decide +kernel) rfl (rest := []) rfl hl (Nat.le_of_ble_eq_true rfl) (by decide) (by omega) dX1_keep_161 hS (fun q h => Or.inl (Nat.le_trans hS.1 h)) (fun v161 H locs hp161 hz9 hk9 hS => ?_)
                have hE9 := Ext.of hz9 hk9 (fun q h => h)
                have hx1 := hx1.ext hE9
                have hth := hth.ext hE9
                have hed := hed.ext hE9
                have htp := htp.ext hE9
                have hO7 := hO7.ext hE9
                have hc8x := hc8x.ext hE9
                have hwi8 := hwi8.ext hE9
                have hv2 := hv2.ext hE9
                have hb161 := b2i_rg (decide (ctF (ctL (tCc K)) nPriv ≠ -1))
                subst hp161
                have hRB := hRB.ext cx.kk.1 hE9
                rw [ctL_has]
                have hr2 := b2i_rg (hasW (tCc K) nPriv)
                refine z_if_ne cx (tgt := 193) dX1_keep_164 (by decide) (by omega) (fun c164 => ?_) (fun c164 => ?_)
                · have hf := b2i_ne0 c164
                  refine lv_iconst (v := iI (0)) hx hb dX1_keep_193 rfl ?_
                  exact l194 _ mz bs us false (Nat.lt_succ_self _) hmb hus (by rw [hf1, hf]; rfl) _ _ _ _ _ hS hx1 hth hed htp hO7 hRB (by omega) (by omega) (lv_sub hl [0, 3] rfl)
                · have hf2 := b2i_eq0 c164
                  obtain ⟨edv, rsv, capv, mzv, -, hv2, hv3, -, hv5, hv6⟩ := id hRB.2.2.2.2.1
                  have hvl4 := hKok.2.2.2.1
                  refine lv_aload hx hb dX1_keep_167 (lv_at hl 2 rfl) ?_
                  obtain ⟨la169, ltx, lR, lS169⟩ := lit_X1_234 cx.kk.1
                  refine z_ldcS cx lR dX1_keep_169 ?_
                  refine z_callV cx (j := 1) (m_J2_contains G l _ _ (Old G) vy edv capv la169 (.int (iI mzv)) rsv (tVary K) [42] (hB.ofS hS hBA) hv2 hv3 ⟨hv5.1, by omega⟩ hv6 (lS169.old (hB.ofS hS hBA)) (mc := 0) (ms := 0)) (lw_V q1065 q1066 q1067 q35 q1068) (zrecv cx hv2 rfl) (by decide +kernel) rfl (rest := []) rfl hl (Nat.le_of_ble_eq_true rfl) (by decide) (by omega) dX1_keep_171 hS (fun q h => Or.inl (Nat.le_trans hS.1 h)) (fun v171 H locs hp171 hz9 hk9 hS => ?_)
                  have hE9 := Ext.of hz9 hk9 (fun q h => h)
                  have hx1 := hx1.ext hE9
                  have hth := hth.ext hE9
                  have hed := hed.ext hE9
                  have htp := htp.ext hE9
                  have hO7 := hO7.ext hE9
                  have hc8x := hc8x.ext hE9
                  have hwi8 := hwi8.ext hE9
                  have hv2 := hv2.ext hE9
                  have hb171 := b2i_rg (decide (0 ≤ fix1 (fun x => decide ([42] = x)) (tVary K) 0))
                  subst hp171
                  have hRB := hRB.ext cx.kk.1 hE9
                  rw [star_eq]
                  have hr3 := b2i_rg (star (tVary K))
                  refine z_if_ne cx (tgt := 193) dX1_keep_174 (by decide) (by omega) (fun c174 => ?_) (fun c174 => ?_)
                  · have hf := b2i_ne0 c174
                    refine lv_iconst (v := iI (0)) hx hb dX1_keep_193 rfl ?_
                    exact l194 _ mz bs us false (Nat.lt_succ_self _) hmb hus (by rw [hf1, hf2, hf]; rfl) _ _ _ _ _ hS hx1 hth hed htp hO7 hRB (by omega) (by omega) (lv_sub hl [0, 3] rfl)
                  · have hf3 := b2i_eq0 c174
                    refine lv_aload_n hx hb dX1_keep_177 rfl (lv_at hl 0 rfl) ?_
                    refine z_get cx (k0 := 3) hx1 rfl in_X1 (by decide) q675 rfl rfl dX1_keep_178 ?_
                    obtain ⟨la181, ltx, lR, lS181⟩ := lit_X1_230 cx.kk.1
                    refine z_ldcS cx lR dX1_keep_181 ?_
                    refine z_callV cx (j := 1) (m_X3_has G l _ (PC G x tp th ed (as ++ [tt]) rs) (Old G) wi la181 (ctL (vof (gReq g) nCc)) nNs (hB.ofS hS hBA) hRB.2.1 (lS181.old (hB.ofS hS hBA)) (mc := 0) (ms := 0)) (lw_V q833 q834 q835 q37 q836) (zrecv cx hwi8 rfl) (by decide +kernel) rfl (rest := []) rfl hl (Nat.le_of_ble_eq_true rfl) (by decide) (by omega) dX1_keep_183 hS (fun q h => Or.inl (Nat.le_trans hS.1 h)) (fun v183 H locs hp183 hz9 hk9 hS => ?_)
                    have hE9 := Ext.of hz9 hk9 (fun q h => h)
                    have hx1 := hx1.ext hE9
                    have hth := hth.ext hE9
                    have hed := hed.ext hE9
                    have htp := htp.ext hE9
                    have hO7 := hO7.ext hE9
                    have hc8x := hc8x.ext hE9
                    have hwi8 := hwi8.ext hE9
                    have hv2 := hv2.ext hE9
                    have hb183 := b2i_rg (decide (ctF (ctL (vof (gReq g) nCc)) nNs ≠ -1))
                    subst hp183
                    have hRB := hRB.ext cx.kk.1 hE9
                    rw [ctL_has]
                    have hr4 := b2i_rg (hasW (vof (gReq g) nCc) nNs)
                    refine z_if_ne cx (tgt := 193) dX1_keep_186 (by decide) (by omega) (fun c186 => ?_) (fun c186 => ?_)
                    · have hf := b2i_ne0 c186
                      refine lv_iconst (v := iI (0)) hx hb dX1_keep_193 rfl ?_
                      exact l194 _ mz bs us false (Nat.lt_succ_self _) hmb hus (by rw [hf1, hf2, hf3, hf]; rfl) _ _ _ _ _ hS hx1 hth hed htp hO7 hRB (by omega) (by omega) (lv_sub hl [0, 3] rfl)
                    · have hf4 := b2i_eq0 c186
                      refine lv_iconst (v := iI (1)) hx hb dX1_keep_189 rfl ?_
                      refine lv_goto (tgt := 194) hx hb dX1_keep_190 (by decide) ?_
                      exact l194 _ mz bs us true (Nat.lt_succ_self _) hmb hus (by rw [hf1, hf2, hf3, hf4]; rfl) _ _ _ _ _ hS hx1 hth hed htp hO7 hRB (by omega) (by omega) (lv_sub hl [0, 3] rfl)
          refine lv_aload_n hx hb dX1_keep_97 rfl (lv_at hl 1 rfl) ?_
          refine z_get cx (k0 := 1) hx1 rfl in_X1 (by decide) q673 rfl rfl dX1_keep_98 ?_
          refine z_callV cx (j := 0) (m_J2_size G l _ th (as.length : Int) (.int (iI mz)) (.ref ed) hth (mc := 0) (ms := 0)) (lw_V q710 q546 q547 q35 q548) (zrecv cx hth rfl) (by decide +kernel) rfl (rest := []) rfl hl (Nat.le_of_ble_eq_true rfl) (by decide) (by omega) dX1_keep_101 hS (fun q h => Or.inl (Nat.le_trans hS.1 h)) (fun v101 H locs hp101 hz9 hk9 hS => ?_)
          have hE9 := Ext.of hz9 hk9 (fun q h => h)
          have hx1 := hx1.ext hE9
          have hth := hth.ext hE9
          have hed := hed.ext hE9
          have htp := htp.ext hE9
          have hO7 := hO7.ext hE9
          subst hp101
          have hRB := hRB.ext cx.kk.1 hE9
          refine lv_iconst (v := iI (1)) hx hb dX1_keep_104 rfl ?_
          refine z_isub cx (z := (as.length : Int) - 1) dX1_keep_105 (by omega) ?_
          refine lv_istore (lv' := [(6, .int (iI ((as.length : Int) - 1))), (5, .ref tt), (0, .ref x), (1, .int (iI p0)), (2, .ref h9), (3, .ref co), (4, .ref vy)]) hx hb dX1_keep_106 hl (by decide) rfl (fun ls hl => ?_)
          have l108 : ∀ (fuel : Nat) (j : Nat) (mz : Int) (bs : List Nat) (us : List Th), j < fuel → (j ≤ (gTs g).length) → (us = (gTs g).take j ++ ((gTs g).drop j).filter (fun t => !isLk K t)) → (bs.Nodup ∧ (∀ a ∈ bs, a ∈ as) ∧ bs.length ≤ 24) → ∀ (H : Heap) (locs : List Loc) (ls : Array Slot) (k n : Nat), va_S (AC G H0) H0 H locs → Ob G H x 0 [.ref tp, .ref th, .ref rq, .ref wi, .int (iI 0), .int (iI ((rdT (gTape g)).1)), .int (iI (gTime g)), .int (iI (gUse g : Int))] → Ob G H th 8 [.int (iI mz), .ref ed, .int (iI ↑bs.length)] → EDok G H ed bs cap → Ai G H tp 100 (gTape g ++ pad) → Ob G H tt 4 [.int (iI (tPath K)), .ref ye, .ref vy, .ref vl, .ref co, .int (iI (tLife K)), .int (iI (tAge K)), .int (iI (gTime g)), .int (iI 0)] → (RB G (PC G x tp th ed (as ++ [tt]) rs) H rq wi ye vy vl co rs bs M c9 (ctL (vof (gReq g) nCc)) us K) → (k + 5 ≤ mc) → (n + 100 ≤ ms) → lv_has ls 7 [(0, .ref x), (3, .ref co), (4, .ref vy), (5, .ref tt), (6, .int (iI ((j : Int) - 1)))] → W p l e ⟨20, mc, ms, 455⟩ s m args below meth c H locs k n Q (F0 m 108 ls []) := by
            intro fuel
            induction fuel with
            | zero => intro j mz bs us hf9; exact absurd hf9 (Nat.not_lt_zero _)
            | succ fuel ih_l108 =>
              intro j mz bs us hf9 hj hus hmb H locs ls k n hS hx1 hth hed htp hO7 hRB hr1 hr2 hl
              have hbl := hRB.2.2.1.1
              refine lv_iload hx hb dX1_keep_108 (lv_at hl 4 rfl) ?_
              refine z_if_lt cx (tgt := 149) dX1_keep_110 (by decide) (by omega) (fun c110 => ?_) (fun c110 => ?_)
              · have e1 : j = 0 := by omega
                subst e1
                rw [List.take_zero, List.nil_append, List.drop_zero, ← hk1] at hus
                exact l149 _ mz bs us (Nat.lt_succ_self _) hmb hus _ _ _ _ _ hS hx1 hth hed htp hO7 hRB (by omega) (by omega) (lv_sub hl [0, 1, 2, 3] rfl)
              · obtain ⟨J, rfl⟩ : ∃ J, j = J + 1 := ⟨j - 1, by omega⟩
                rw [show (((J + 1 : Nat) : Int) - 1) = (J : Int) by omega] at hl
                have hJ : J < (gTs g).length := by omega
                have hul : us.length = J + 1 + (((gTs g).drop (J + 1)).filter (fun t => !isLk K t)).length := by rw [hus, List.length_append, List.length_take]; omega
                have hJb : J < bs.length := by omega
                obtain ⟨a9, ha9⟩ : ∃ w, bs[J]? = some w := ⟨_, List.getElem?_eq_getElem hJb⟩
                obtain ⟨t9, ht9, ho9, e0, v0, w0, co0, hO9, hE9', hV9, hW9, hC9⟩ := hRB.2.2.1.at ha9
                have hgd9 : bs.getD J 0 = a9 := by rw [List.getD_eq_getElem?_getD, ha9]; rfl
                have htg : (gTs g)[J]? = some t9 := by rw [hus, List.getElem?_append_left (by rw [List.length_take]; omega), List.getElem?_take] at ht9; rw [if_pos (by omega)] at ht9; exact ht9
                have hdr := drop_s htg
                have htk : (gTs g).take (J + 1) = (gTs g).take J ++ [t9] := by obtain ⟨q1, q2⟩ := List.getElem?_eq_some_iff.mp htg; rw [List.take_succ_eq_append_getElem q1, q2]
                refine lv_aload_n hx hb dX1_keep_113 rfl (lv_at hl 0 rfl) ?_
                refine z_get cx (k0 := 1) hx1 rfl in_X1 (by decide) q673 rfl rfl dX1_keep_114 ?_
                refine lv_iload hx hb dX1_keep_117 (lv_at hl 4 rfl) ?_
                refine z_callV cx (j := 1) (m_J2_get G l _ th ed J cap bs (.int (iI mz)) hth hed ⟨hJb, by omega⟩ (mc := 0) (ms := 0)) (lw_V q711 q550 q551 q35 q552) (zrecv cx hth rfl) (by decide +kernel) rfl (rest := []) rfl hl (Nat.le_of_ble_eq_true rfl) (by decide) (by omega) dX1_keep_119 hS (fun q h => Or.inl (Nat.le_trans hS.1 h)) (fun v119 H locs hp119 hz9 hk9 hS => ?_)
                have hE9 := Ext.of hz9 hk9 (fun q h => h)
                have hx1 := hx1.ext hE9
                have hth := hth.ext hE9
                have hed := hed.ext hE9
                have htp := htp.ext hE9
                have hO7 := hO7.ext hE9
                have hO9 := hO9.ext hE9
                subst hp119
                have hRB := hRB.ext cx.kk.1 hE9
                have hV9 := hV9.ext cx.kk.1 hE9
                have hW9 := hW9.ext cx.kk.1 hE9
                rw [hgd9]
                refine va_castE hx hb cx.wn (cx.ts _ q712) (zrecv cx hO9 rfl) dX1_keep_122 ?_
                refine lv_aload hx hb dX1_keep_125 (lv_at hl 3 rfl) ?_
                have hln9 := ho9.2.2.2.1
                have hlnK := hKok.2.2.2.1
                have hlv9 := ho9.2.2.2.2.1
                have hlvK := hKok.2.2.2.2.1
                obtain ⟨-, -, -, -, hz1, -⟩ := id hV9
                obtain ⟨-, -, -, -, hz2, -⟩ := id hW9
                refine z_callV cx (j := 1) (m_X7_isLike G l _ _ (PC G x tp th ed (as ++ [tt]) rs) a9 tt v0 w0 vy vl (tPath t9) (tPath K) (tVary t9) (tVary K) ((tVals t9).map lsO) ((tVals K).map lsO) (.ref e0) (.ref co0) (.int (iI (tLife t9))) (.int (iI (tAge t9))) (.int (iI (tSince t9))) (.int (iI (tUsed t9 : Int))) (.ref ye) (.ref co) (.int (iI (tLife K))) (.int (iI (tAge K))) (.int (iI (gTime g))) (.int (iI 0)) (hB.ofS hS hBA) hO9 hO7 ⟨ho9.2.2.2.2.2.2.2.2.2.2.1, hKok.2.2.2.2.2.2.2.2.2.2.1⟩ hV9 hW9 hRB.2.2.2.2.1 hRB.2.2.2.2.2.1 ⟨hz1.2.1, hz2.2.2⟩ ⟨⟨by omega, by omega⟩, by rw [List.length_map]; omega, by rw [List.length_map]; omega⟩ (mc := 0) (ms := 0)) (lw_V q943 q944 q945 q60 q946) (zrecv cx hO9 rfl) (by decide +kernel) rfl (rest := []) rfl hl (Nat.le_of_ble_eq_true rfl) (by decide) (by omega) dX1_keep_127 hS (fun q h => Or.inl (Nat.le_trans hS.1 h)) (fun v127 H locs hp127 hz9 hk9 hS => ?_)
                have hE9 := Ext.of hz9 hk9 (fun q h => h)
                have hx1 := hx1.ext hE9
                have hth := hth.ext hE9
                have hed := hed.ext hE9
                have htp := htp.ext hE9
                have hO7 := hO7.ext hE9
                have hO9 := hO9.ext hE9
                have hb127 := b2i_rg (decide (tPath t9 = tPath K) && decide (tVary t9 = tVary K) && decide ((tVals t9).map lsO = (tVals K).map lsO))
                subst hp127
                have hRB := hRB.ext cx.kk.1 hE9
                rw [← isLk_eq hlvK hlv9]
                have hr1 := b2i_rg (isLk K t9)
                refine z_if_eq cx (tgt := 143) dX1_keep_130 (by decide) (by omega) (fun c130 => ?_) (fun c130 => ?_)
                · have hq := b2i_eq0 c130
                  have e2 : ((gTs g).drop J).filter (fun t => !isLk K t) = t9 :: ((gTs g).drop (J + 1)).filter (fun t => !isLk K t) := by rw [hdr, List.filter_cons, if_pos (by rw [hq]; rfl)]
                  refine z_iinc cx (j := 4) (z := (J : Int) - 1) (lv' := [(6, .int (iI ((J : Int) - 1))), (0, .ref x), (3, .ref co), (4, .ref vy), (5, .ref tt)]) dX1_keep_143 hl rfl (by omega) (by decide) rfl (fun ls hl => ?_)
                  refine lv_goto (tgt := 108) hx hb dX1_keep_146 (by decide) ?_
                  exact ih_l108 J mz bs us (by omega) (by omega) (by rw [hus, htk, e2, List.append_assoc]; rfl) hmb _ _ _ _ _ hS hx1 hth hed htp hO7 hRB (by omega) (by omega) (lv_sub hl [1, 2, 3, 4, 0] rfl)
                · have hq := b2i_ne0 c130
                  have e2 : ((gTs g).drop J).filter (fun t => !isLk K t) = ((gTs g).drop (J + 1)).filter (fun t => !isLk K t) := by rw [hdr, List.filter_cons, if_neg (by rw [hq]; decide)]
                  refine lv_aload_n hx hb dX1_keep_133 rfl (lv_at hl 0 rfl) ?_
                  refine z_get cx (k0 := 1) hx1 rfl in_X1 (by decide) q673 rfl rfl dX1_keep_134 ?_
                  refine lv_iload hx hb dX1_keep_137 (lv_at hl 4 rfl) ?_
                  have ht7 := hth
                  have he7 := hed
                  have hrl : (rmi bs J).length = bs.length - 1 := rmi_len hJb
                  refine z_callV cx (j := 1) (m_J2_remove G l _ th ed cap J mz bs (hB.ofS hS hBA) hm7 hth hed (hRB.2.2.1.el cx.kk) ⟨hJb, by omega⟩ (mc := 0) (ms := 0)) (lw_V q713 q636 q637 q35 q638) (zrecv cx hth rfl) (by decide +kernel) rfl (rest := []) rfl hl (Nat.le_of_ble_eq_true rfl) (by decide) (by omega) dX1_keep_139 hS (fun q h => by rcases h with h | h | h; exact Or.inl (Nat.le_trans hS.1 h); exact h ▸ hAth; exact h.2 ▸ hAed (h.2 ▸ h.1)) (fun v139 H locs hp139 hz9 hk9 hS => ?_)
                  obtain ⟨rfl, hth, hed⟩ := hp139
                  have hx1 := hx1.kept (kq_ne hk9 hx1.lt hxth (fun _ => hxed.symm))
                  have htp := htp.kept (kq_ne hk9 htp.lt htpth (fun _ => htped.symm))
                  have hO7 := hO7.kept (kq_ne hk9 hO7.lt hthtt.symm htted)
                  have hRB := (hRB.kl cx.kk ht7.cl he7 hm9 (fun a ha => hm8 a (hmb.2.1 a ha)) hk9).rm J
                  rw [← hrl] at hth
                  refine lv_pop hx hb dX1_keep_142 rfl ?_
                  refine z_iinc cx (j := 4) (z := (J : Int) - 1) (lv' := [(6, .int (iI ((J : Int) - 1))), (0, .ref x), (3, .ref co), (4, .ref vy), (5, .ref tt)]) dX1_keep_143 hl rfl (by omega) (by decide) rfl (fun ls hl => ?_)
                  refine lv_goto (tgt := 108) hx hb dX1_keep_146 (by decide) ?_
                  exact ih_l108 J (mz + 1) (rmi bs J) (rmi us J) (by omega) (by omega) (by rw [e2, hus]; exact rmi_take _ _ _ hJ) ⟨hmb.1.sublist (rmi_sub _ _), fun b hb => hmb.2.1 b (rmi_mem hb), by rw [hrl]; omega⟩ _ _ _ _ _ hS hx1 hth hed htp hO7 hRB (by omega) (by omega) (lv_sub hl [1, 2, 3, 4, 0] rfl)
          exact l108 _ as.length mz as (gTs g) (Nat.lt_succ_self _) (by omega) (by rw [hlen, List.take_length, List.drop_length]; simp) ⟨hm3, fun a ha => ha, by omega⟩ _ _ _ _ _ hS hx1 hth hed htp hO7 hRB (by omega) (by omega) (lv_sub hl [2, 5, 6, 1, 0] rfl)
      obtain ⟨L9, ed9, cap9, mz9, hPh, hPL, hPe, hh9, hL9, hed9, hcap9, hN9'⟩ := id (hHn.ext cx.kk.1 hE0)
      refine lv_dup hx hb dX1_keep_51 rfl ?_
      refine lv_iload_n hx hb dX1_keep_52 rfl (lv_at hl 2 rfl) ?_
      refine lv_aload_n hx hb dX1_keep_53 rfl (lv_at hl 3 rfl) ?_
      obtain ⟨la54, ltx, lR, lS54⟩ := lit_X1_211 cx.kk.1
      refine z_ldcS cx lR dX1_keep_54 ?_
      refine z_callV cx (j := 1) (m_X2_has G l _ (fun q => PC G x tp th ed as rs q ∧ q < Hb.size) (Old G) h9 L9 ed9 cap9 la54 (.int (iI mz9)) rs9 (mrg (rdX g)) cs9 nEtag (hB.ofS hS hBA) hh9 hL9 hed9 hN9' (by omega) (lS54.old (hB.ofS hS hBA)) (mc := 0) (ms := 0)) (lw_V q876 q877 q878 q36 q879) (zrecv cx hh9 rfl) (by decide +kernel) rfl (rest := [.int (iI p0), .ref tt, .ref tt]) rfl hl (Nat.le_of_ble_eq_true rfl) (by decide) (by omega) dX1_keep_56 hS (fun q h => Or.inl (Nat.le_trans hS.1 h)) (fun v56 H locs hp56 hz9 hk9 hS => ?_)
      have hE9 := Ext.of hz9 hk9 (fun q h => h)
      have hx1 := hx1.ext hE9
      have Att := Att.ext hE9
      have hh9 := hh9.ext hE9
      have hb56 := b2i_rg (decide (hdV (mrg (rdX g)) nEtag ≠ none))
      subst hp56
      have hE0 := hE0.trans hE9
      have hCt := hCt.ext cx.kk.1 hE9
      have hV := hV.ext cx.kk.1 hE9
      have hVe : hdV (mrg (rdX g)) nEtag = vof (rdX g) nEtag := (mrg_ok (rdX g) nEtag).2
      refine z_if_eq cx (tgt := 71) dX1_keep_59 (by decide) (by omega) (fun c59 => ?_) (fun c59 => ?_)
      · have hv := Classical.not_not.mp (b2i_F c59)
        obtain ⟨la71, ltx, lR, lS71⟩ := lit_X1_205 cx.kk.1
        refine z_ldcS cx lR dX1_keep_71 ?_
        exact l73 _ la71 (Nat.lt_succ_self _)  _ _ _ _ _ hS hx1 Att hE0 hCt hV (by rw [← hVe, hv]; exact (lS71.old (hB.ofS hS hBA)).kp (Kp.weak (fun q _ z => ⟨hPn q (Or.inr z), by omega⟩))) (by omega) (by omega) (lv_sub hl [1, 2, 3, 4, 0] rfl)
      · have hv := b2i_T c59
        obtain ⟨L9, ed9, cap9, mz9, hPh, hPL, hPe, hh9, hL9, hed9, hcap9, hN9'⟩ := id (hHn.ext cx.kk.1 hE0)
        refine lv_aload_n hx hb dX1_keep_62 rfl (lv_at hl 3 rfl) ?_
        obtain ⟨la63, ltx, lR, lS63⟩ := lit_X1_211 cx.kk.1
        refine z_ldcS cx lR dX1_keep_63 ?_
        refine z_callV cx (j := 1) (m_X2_value G l _ (fun q => PC G x tp th ed as rs q ∧ q < Hb.size) (Old G) h9 L9 ed9 cap9 la63 (.int (iI mz9)) rs9 (mrg (rdX g)) cs9 nEtag (hB.ofS hS hBA) hh9 hL9 hed9 hN9' (by omega) (lS63.old (hB.ofS hS hBA)) (mc := 0) (ms := 0)) (lw_V q796 q797 q798 q36 q799) (zrecv cx hh9 rfl) (by decide +kernel) rfl (rest := [.int (iI p0), .ref tt, .ref tt]) rfl hl (Nat.le_of_ble_eq_true rfl) (by decide) (by omega) dX1_keep_65 hS (fun q h => Or.inl (Nat.le_trans hS.1 h)) (fun v65 H locs hp65 hz9 hk9 hS => ?_)
        have hE9 := Ext.of hz9 hk9 (fun q h => h)
        obtain ⟨o, rfl, ho⟩ := hp65
        have hx1 := hx1.ext hE9
        have Att := Att.ext hE9
        have hh9 := hh9.ext hE9
        have hE0 := hE0.trans hE9
        have hCt := hCt.ext cx.kk.1 hE9
        have hV := hV.ext cx.kk.1 hE9
        rcases o with _ | o
        · exact absurd ho.n hv
        · obtain ⟨xs, hxs, ho⟩ := ho.s
          refine lv_goto (tgt := 73) hx hb dX1_keep_68 (by decide) ?_
          exact l73 _ o (Nat.lt_succ_self _)  _ _ _ _ _ hS hx1 Att hE0 hCt hV (by rw [← hVe, hxs]; exact ho) (by omega) (by omega) (lv_sub hl [1, 2, 3, 4, 0] rfl)
  refine z_callV cx (j := 1) (m_X2_has G l _ (fun q => PC G x tp th ed as rs q ∧ q < Hb.size) (Old G) h9 L9 ed9 cap9 la21 (.int (iI mz9)) rs9 (mrg (rdX g)) cs9 nVary (hB.ofS hS hBA) hh9 hL9 hed9 hN9' (by omega) (lS21.old (hB.ofS hS hBA)) (mc := 0) (ms := 0)) (lw_V q876 q877 q878 q36 q879) (zrecv cx hh9 rfl) (by decide +kernel) rfl (rest := []) rfl hl (Nat.le_of_ble_eq_true rfl) (by decide) (by omega) dX1_keep_23 hS (fun q h => Or.inl (Nat.le_trans hS.1 h)) (fun v23 H locs hp23 hz9 hk9 hS => ?_)
  have hE9 := Ext.of hz9 hk9 (fun q h => h)
  have hx1 := hx1.ext hE9
  have hh9 := hh9.ext hE9
  have hb23 := b2i_rg (decide (hdV (mrg (rdX g)) nVary ≠ none))
  subst hp23
  have hE0 := hE0.trans hE9
  have hCt := hCt.ext cx.kk.1 hE9
  have hVv : hdV (mrg (rdX g)) nVary = vof (rdX g) nVary := (mrg_ok (rdX g) nVary).2
  refine z_if_eq cx (tgt := 38) dX1_keep_26 (by decide) (by omega) (fun c26 => ?_) (fun c26 => ?_)
  · have hv := Classical.not_not.mp (b2i_F c26)
    obtain ⟨la38, ltx, lR, lS38⟩ := lit_X1_205 cx.kk.1
    refine z_ldcS cx lR dX1_keep_38 ?_
    exact l40 _ la38 (Nat.lt_succ_self _)  _ _ _ _ _ hS hx1 hE0 hCt (by rw [← hVv, hv]; exact (lS38.old (hB.ofS hS hBA)).kp (Kp.weak (fun _ _ _ => trivial))) (by omega) (by omega) (lv_sub hl [2, 3, 1, 0] rfl)
  · have hv := b2i_T c26
    obtain ⟨L9, ed9, cap9, mz9, hPh, hPL, hPe, hh9, hL9, hed9, hcap9, hN9'⟩ := id (hHn.ext cx.kk.1 hE0)
    refine lv_aload_n hx hb dX1_keep_29 rfl (lv_at hl 1 rfl) ?_
    obtain ⟨la30, ltx, lR, lS30⟩ := lit_X1_203 cx.kk.1
    refine z_ldcS cx lR dX1_keep_30 ?_
    refine z_callV cx (j := 1) (m_X2_value G l _ (fun q => PC G x tp th ed as rs q ∧ q < Hb.size) (Old G) h9 L9 ed9 cap9 la30 (.int (iI mz9)) rs9 (mrg (rdX g)) cs9 nVary (hB.ofS hS hBA) hh9 hL9 hed9 hN9' (by omega) (lS30.old (hB.ofS hS hBA)) (mc := 0) (ms := 0)) (lw_V q796 q797 q798 q36 q799) (zrecv cx hh9 rfl) (by decide +kernel) rfl (rest := []) rfl hl (Nat.le_of_ble_eq_true rfl) (by decide) (by omega) dX1_keep_32 hS (fun q h => Or.inl (Nat.le_trans hS.1 h)) (fun v32 H locs hp32 hz9 hk9 hS => ?_)
    have hE9 := Ext.of hz9 hk9 (fun q h => h)
    obtain ⟨o, rfl, ho⟩ := hp32
    have hx1 := hx1.ext hE9
    have hh9 := hh9.ext hE9
    have hE0 := hE0.trans hE9
    have hCt := hCt.ext cx.kk.1 hE9
    rcases o with _ | o
    · exact absurd ho.n hv
    · obtain ⟨xs, hxs, ho⟩ := ho.s
      refine lv_goto (tgt := 40) hx hb dX1_keep_35 (by decide) ?_
      exact l40 _ o (Nat.lt_succ_self _)  _ _ _ _ _ hS hx1 hE0 hCt (by rw [← hVv, hxs]; exact ho.kp (Kp.weak (fun _ _ _ => trivial))) (by omega) (by omega) (lv_sub hl [2, 3, 1, 0] rfl)
