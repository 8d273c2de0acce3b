/-! ===== the component: made ===== -/
set_option maxHeartbeats 4000000 in
set_option maxRecDepth 100000 in
theorem m_X1_init (G : zE) (l : Launch) (H0 : Heap) (x : Nat) (hB : Bh G H0) (h0 : Ob G H0 x 0 [.null, .null, .null, .null, .int (iI 0), .int (iI 0), .int (iI 0), .int (iI 0)]) (hxb : G.2.heap.size ≤ x) {mc ms : Nat} (hmc : 40 ≤ mc) (hms : 1000 ≤ ms) : zV G l yX1_init (ws_ yX1_init cX1_init 1 (none)) 9 239 mc ms [.ref x] H0 (fun H1 => RepC G H1 x [] ([], -1, 0, [], [], 0)) (fun q => H0.size ≤ q ∨ q = x) := by
  refine zV.start (cc := cX1_init) (by decide) (Nat.le_of_ble_eq_true rfl) ?_
  intro p e s m args below meth c Q cx hQ hmn ls hl
  have hx := cx.1
  have hb := cx.2.1
  have hS : va_S (fun q => H0.size ≤ q ∨ q = x) H0 H0 [] := va_S.rf
  have hl : lv_has ls 1 [(0, .ref x)] := hl
  have hB9 := hB.1
  have hBA : ∀ q, (H0.size ≤ q ∨ q = x) → G.2.heap.size ≤ q := fun q z => by rcases z with z | z <;> omega
  have hl0 := h0.lt
  have hx9 := h0
  refine lv_aload_n hx hb dX1_init_0 rfl (lv_at hl 0 rfl) ?_
  refine z_obj cx q69 q70 q71 hl (Nat.le_of_ble_eq_true rfl) (by decide) dX1_init_1 ?_
  refine lv_aload_n hx hb dX1_init_4 rfl (lv_at hl 0 rfl) ?_
  refine lv_sipush (v := iI (300)) hx hb dX1_init_5 (by decide) ?_
  refine z_newB cx hS q101 (300) (by omega) (by omega) dX1_init_8 (fun tp H htp hgtp Atp hz9 hE9 hS => ?_)
  have hx9 := hx9.ext hE9
  have ntx : tp ≠ x := by omega
  refine z_putF cx hmn (k0 := 0) (vs' := [.ref tp, .null, .null, .null, .int (iI 0), .int (iI 0), .int (iI 0), .int (iI 0)]) hx9 (Or.inr rfl) hS rfl in_X1 tyX1_ok nmX1 (by decide) q672 rfl rfl rfl rfl (Nat.le_of_ble_eq_true rfl) ⟨rfl, rfl⟩ dX1_init_10 (fun H locs hx9 hz9 hq9 hS => ?_)
  have Atp := Atp.kept (hq9 _ ntx)
  refine lv_aload_n hx hb dX1_init_13 rfl (lv_at hl 0 rfl) ?_
  refine z_new cx (ci := 8) (vs := [.int (iI 0), .null, .int (iI 0)]) hS rfl in_J2 tyJ2_ok q72 q73 q35 (zdefJ2) (by omega) dX1_init_14 (fun th H hth hgth Ath hz9 hE9 hS => ?_)
  have hx9 := hx9.ext hE9
  have Atp := Atp.ext hE9
  refine lv_dup hx hb dX1_init_17 rfl ?_
  have htpl : tp < th := by have := Atp.lt; omega
  have nhx : th ≠ x := by omega
  have hx8 := hx9
  have hp8 := Atp
  refine z_callI cx (j := 0) (m_J2_init G l _ th (.int (iI 0)) .null (.int (iI 0)) (hB.ofS hS hBA) (by omega) Ath (mc := 0) (ms := 0)) (lw_meth q76) q35 q74 q75 rfl (by decide +kernel) rfl (rest := [.ref th, .ref x]) rfl hl (Nat.le_of_ble_eq_true rfl) (by decide) (by omega) dX1_init_18 hS (fun q h => by rcases h with h | h; exact Or.inl (Nat.le_trans hS.1 h); exact Or.inl (by omega)) (fun H locs hp18 hz9 hk9 hS => ?_)
  have hth := hp18
  have hx9 := hx8.kept (hk9 x hx8.lt (by rintro (z | z); exact absurd hx8.lt (Nat.not_lt.mpr z); exact nhx z.symm))
  have Atp := hp8.kept (hk9 tp hp8.lt (by rintro (z | z); exact absurd hp8.lt (Nat.not_lt.mpr z); omega))
  refine z_putF cx hmn (k0 := 1) (vs' := [.ref tp, .ref th, .null, .null, .int (iI 0), .int (iI 0), .int (iI 0), .int (iI 0)]) hx9 (Or.inr rfl) hS rfl in_X1 tyX1_ok nmX1 (by decide) q673 rfl rfl rfl rfl (Nat.le_of_ble_eq_true rfl) ⟨rfl, rfl⟩ dX1_init_21 (fun H locs hx9 hz9 hq9 hS => ?_)
  have Atp := Atp.kept (hq9 _ ntx)
  have hth := hth.kept (hq9 _ nhx)
  refine lv_aload_n hx hb dX1_init_24 rfl (lv_at hl 0 rfl) ?_
  refine z_new cx (ci := 1) (vs := [.null]) hS rfl in_X2 tyX2_ok q102 q103 q36 (zdefX2) (by omega) dX1_init_25 (fun h H hh hgh Ah hz9 hE9 hS => ?_)
  have hx9 := hx9.ext hE9
  have Atp := Atp.ext hE9
  have hth := hth.ext hE9
  refine lv_dup hx hb dX1_init_28 rfl ?_
  have nqx : h ≠ x := by omega
  have hthl : th < h := by have := hth.lt; omega
  have hx8 := hx9
  have hp8 := Atp
  have ht8 := hth
  have hgs1 := hS.1
  refine z_callIN cx (j := 0) (m_X2_init G l _ h (hB.ofS hS hBA) (by omega) Ah (mc := 1) (ms := 3) (Nat.le_refl _) (Nat.le_refl _)) (lw_meth q106) q36 q104 q105 rfl (by decide +kernel) rfl (rest := [.ref h, .ref x]) rfl hl (Nat.le_of_ble_eq_true rfl) (by decide) (by omega) dX1_init_29 hS (fun q h => by rcases h with h | h; exact Or.inl (Nat.le_trans hS.1 h); exact Or.inl (by omega)) (fun H locs hp29 hz9 hk9 hS => ?_)
  obtain ⟨L, hgL, hh, hL⟩ := hp29
  have kq : ∀ q : Nat, q < h → H[q]? = _ := fun q hq => hk9 q (by have := Ah.lt; omega) (by have := Ah.lt; rintro (z | z) <;> omega)
  have hLb : h < L := by have := Ah.lt; omega
  have hx9 := hx8.kept (kq x (by omega))
  have Atp := hp8.kept (kq tp (by omega))
  have hth := ht8.kept (kq th (by omega))
  have hHR : HR G (fun q => q ≠ x ∧ q ≠ tp ∧ q ≠ th) H h [] (mrg []) [] := ⟨L, e0 G, 0, 0, ⟨by omega, by omega, by omega⟩, ⟨by omega, by omega, by omega⟩, Or.inl rfl, hh, hL, Or.inl ⟨rfl, rfl, rfl⟩, by omega, ⟨rfl, rfl, fun i r t cb h => by simp at h⟩⟩
  refine z_put cx (k0 := 2) (vs' := [.ref tp, .ref th, .ref h, .null, .int (iI 0), .int (iI 0), .int (iI 0), .int (iI 0)]) hx9 (Or.inr rfl) hS rfl in_X1 tyX1_ok nmX1 (by decide) q674 rfl rfl  rfl (Nat.le_of_ble_eq_true rfl) ⟨rfl, rfl⟩ dX1_init_32 (fun H locs hx9 hz9 hq9 hS => ?_)
  have Atp := Atp.kept (hq9 _ ntx)
  have hth := hth.kept (hq9 _ nhx)
  have hHR := hHR.kp cx.kk.1 (Kp.put hq9 (fun q h => h.1)) (fun r hr => by cases hr)
  obtain ⟨z9, hz10⟩ : ∃ z, z = H.size := ⟨_, rfl⟩
  have hHR := hHR.kp (P' := fun q => (q ≠ x ∧ q ≠ tp ∧ q ≠ th) ∧ q < z9) cx.kk.1 (Kp.weak (fun q h1 h2 => ⟨h2, by omega⟩)) (fun r hr => by cases hr)
  refine lv_aload_n hx hb dX1_init_35 rfl (lv_at hl 0 rfl) ?_
  refine z_new cx (ci := 2) (vs := [.null, .null]) hS rfl in_X3 tyX3_ok q114 q115 q37 (zdefX3) (by omega) dX1_init_36 (fun co H hco hgco Aco hz9 hE9 hS => ?_)
  have hx9 := hx9.ext hE9
  have Atp := Atp.ext hE9
  have hth := hth.ext hE9
  refine lv_dup hx hb dX1_init_39 rfl ?_
  refine lv_null hx hb dX1_init_40 ?_
  have hHR := hHR.ext cx.kk.1 hE9
  have ncx : co ≠ x := by omega
  have hthc : th < co := by have := hth.lt; omega
  have hx8 := hx9
  have hp8 := Atp
  have ht8 := hth
  have hc0 := Aco
  have hHR := hHR.kp (P' := fun q => (q ≠ x ∧ q ≠ tp ∧ q ≠ th) ∧ q < co) cx.kk.1 (Kp.weak (fun q h1 h2 => ⟨h2.1, by omega⟩)) (fun r hr => by cases hr)
  have hgs2 := hS.1
  refine z_callI cx (j := 1) (m_X3_init G l _ (fun _ => False) co none none (hB.ofS hS hBA) (by omega) Aco trivial (by show (0 : Nat) ≤ 3000; omega) (fun q h => h.elim) (mc := 30) (ms := 500) (by show 13 * 0 + 30 ≤ 30; omega) (by show 50 * 0 + 500 ≤ 500; omega)) (lw_meth q118) q37 q116 q117 rfl (by decide +kernel) rfl (rest := [.ref co, .ref x]) rfl hl (Nat.le_of_ble_eq_true rfl) (by decide) (by omega) dX1_init_41 hS (fun q h => by rcases h with h | h; exact Or.inl (Nat.le_trans hS.1 h); exact Or.inl (by omega)) (fun H locs hp41 hz9 hk9 hS => ?_)
  have hCt := hp41
  have kq : ∀ q : Nat, q < co → H[q]? = _ := fun q hq => hk9 q (by have := hc0.lt; omega) (by have := hc0.lt; rintro (z | z) <;> omega)
  have hx9 := hx8.kept (kq x (by omega))
  have Atp := hp8.kept (kq tp (by omega))
  have hth := ht8.kept (kq th (by omega))
  have hHR := hHR.kp (P' := fun q => q ≠ x ∧ q ≠ tp ∧ q ≠ th) cx.kk.1 (fun q h1 h2 => ⟨h2.1, kq q h2.2⟩) (fun r hr => by cases hr)
  have hCt := hCt.kp (P' := fun q => q ≠ x ∧ q ≠ tp ∧ q ≠ th) cx.kk.1 (Kp.weak (fun q _ z => by have := hc0.lt; rcases z with z | z | z <;> omega))
  refine z_put cx (k0 := 3) (vs' := [.ref tp, .ref th, .ref h, .ref co, .int (iI 0), .int (iI 0), .int (iI 0), .int (iI 0)]) hx9 (Or.inr rfl) hS rfl in_X1 tyX1_ok nmX1 (by decide) q675 rfl rfl  rfl (Nat.le_of_ble_eq_true rfl) ⟨rfl, rfl⟩ dX1_init_44 (fun H locs hx9 hz9 hq9 hS => ?_)
  have Atp := Atp.kept (hq9 _ ntx)
  have hth := hth.kept (hq9 _ nhx)
  have hHR := hHR.kp cx.kk.1 (Kp.put hq9 (fun q h => h.1)) (fun r hr => by cases hr)
  have hCt := hCt.kp cx.kk.1 (Kp.put hq9 (fun q h => h.1))
  refine lv_aload_n hx hb dX1_init_47 rfl (lv_at hl 0 rfl) ?_
  refine lv_iconst (v := iI (-1)) hx hb dX1_init_48 rfl ?_
  refine z_put cx (k0 := 5) (vs' := [.ref tp, .ref th, .ref h, .ref co, .int (iI 0), .int (iI (-1)), .int (iI 0), .int (iI 0)]) hx9 (Or.inr rfl) hS rfl in_X1 tyX1_ok nmX1 (by decide) q677 rfl rfl  rfl (Nat.le_of_ble_eq_true rfl) ⟨rfl, rfl⟩ dX1_init_49 (fun H locs hx9 hz9 hq9 hS => ?_)
  have Atp := Atp.kept (hq9 _ ntx)
  have hth := hth.kept (hq9 _ nhx)
  have hHR := hHR.kp cx.kk.1 (Kp.put hq9 (fun q h => h.1)) (fun r hr => by cases hr)
  have hCt := hCt.kp cx.kk.1 (Kp.put hq9 (fun q h => h.1))
  have he0 := e0_lt cx.kk.1
  have hw : ∀ q, (q ≠ x ∧ q ≠ tp ∧ q ≠ th) → PC G x tp th (e0 G) [] [] q := fun q z => ⟨z.1, z.2.1, z.2.2, fun _ => by omega, by simp, by simp⟩
  exact z_vret cx hQ rfl (⟨tp, th, e0 G, 0, h, co, 0, [], [], List.replicate 300 0, hx9, ⟨Atp, hth, Or.inl ⟨rfl, rfl, rfl⟩, hHR.weak cx.kk.1 hw, hCt.weak cx.kk.1 hw, rfl, fun i a t h => by simp at h⟩, ⟨⟨by show 0 + (List.replicate 300 (0 : Int)).length = 300; rw [List.length_replicate], fun c hc => by rw [(List.mem_replicate.mp hc).2]; omega⟩, by omega, List.nodup_nil, List.nodup_nil, hxb, by omega, by omega, (fun a ha => by cases ha), (fun a ha => by cases ha)⟩, ⟨chs_nil, Nat.zero_le _, by show -1 ≤ (-1 : Int) ∧ (-1 : Int) ≤ 300; decide, by show 0 ≤ (0 : Int) ∧ (0 : Int) ≤ 1000000000; decide, Nat.zero_le _, by show 0 < 100000; decide⟩, Nat.zero_le _⟩) hS (by omega) dX1_init_52
