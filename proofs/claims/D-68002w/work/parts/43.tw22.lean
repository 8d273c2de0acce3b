/-! ===== the model: made; typing ===== -/
set_option maxHeartbeats 4000000 in
set_option maxRecDepth 100000 in
theorem m_X4_init (G : zE) (l : Launch) (H0 : Heap) (x : Nat) (h0 : Ob G H0 x 5 [.null, .int (iI 0), .int (iI 0), .int (iI 0), .int (iI 0), .long 0, .null, .null, .int (iI 0)]) (hxb : G.2.heap.size ≤ x) {mc ms : Nat} (hmc : 7 ≤ mc) (hms : 630 ≤ ms) : zV G l yX4_init (ws_ yX4_init cX4_init 1 (none)) 2 41 mc ms [.ref x] H0 (fun H1 => RepT G H1 x 0 ([], -1, 0, [], [], 0)) (fun q => H0.size ≤ q ∨ q = x) := by
  refine zV.start (cc := cX4_init) (by decide) (Nat.le_of_ble_eq_true rfl) ?_
  intro p e s m args below meth c Q cx hQ hmn ls hl
  have hx := cx.1
  have hb := cx.2.1
  have hS : va_S (fun q => H0.size ≤ q ∨ q = x) H0 H0 [] := va_S.rf
  have hl : lv_has ls 1 [(0, .ref x)] := hl
  have hl0 := h0.lt
  have hx9 := h0
  refine lv_aload_n hx hb dX4_init_0 rfl (lv_at hl 0 rfl) ?_
  refine z_obj cx q1125 q70 q71 hl (Nat.le_of_ble_eq_true rfl) (by decide) dX4_init_1 ?_
  refine lv_aload_n hx hb dX4_init_4 rfl (lv_at hl 0 rfl) ?_
  refine lv_sipush (v := iI (300)) hx hb dX4_init_5 (by decide) ?_
  refine z_newI cx hS q1152 (300) (by omega) (by omega) dX4_init_8 (fun tp H htp hgtp Atp hz9 hE9 hS => ?_)
  have hx9 := hx9.ext hE9
  have ntx : tp ≠ x := by omega
  have nxt9 : x ≠ tp := Ne.symm ntx
  refine z_putF cx hmn (k0 := 0) (vs' := [.ref tp, .int (iI 0), .int (iI 0), .int (iI 0), .int (iI 0), .long 0, .null, .null, .int (iI 0)]) hx9 (Or.inr rfl) hS rfl in_X4 tyX4_ok nmX4 (by decide) q1155 rfl rfl rfl rfl (Nat.le_of_ble_eq_true rfl) ⟨rfl, rfl⟩ dX4_init_10 (fun H locs hx9 hz9 hq9 hS => ?_)
  have Atp := Atp.kept (hq9 _ ntx)
  refine lv_aload_n hx hb dX4_init_13 rfl (lv_at hl 0 rfl) ?_
  refine lv_iconst (v := iI (-1)) hx hb dX4_init_14 rfl ?_
  refine z_put cx (k0 := 2) (vs' := [.ref tp, .int (iI 0), .int (iI (-1)), .int (iI 0), .int (iI 0), .long 0, .null, .null, .int (iI 0)]) hx9 (Or.inr rfl) hS rfl in_X4 tyX4_ok nmX4 (by decide) q1157 rfl rfl  rfl (Nat.le_of_ble_eq_true rfl) ⟨rfl, rfl⟩ dX4_init_15 (fun H locs hx9 hz9 hq9 hS => ?_)
  have Atp := Atp.kept (hq9 _ ntx)
  refine lv_aload_n hx hb dX4_init_18 rfl (lv_at hl 0 rfl) ?_
  refine z_new cx (ci := 6) (vs := [.null, .int (iI 0), .null, .null, .null]) hS rfl in_X5 tyX5_ok q1126 q1127 q58 (zdefX5) (by omega) dX4_init_19 (fun t H ht hgt At hz9 hE9 hS => ?_)
  have hx9 := hx9.ext hE9
  have Atp := Atp.ext hE9
  refine lv_dup hx hb dX4_init_22 rfl ?_
  refine lv_iconst (v := iI (0)) hx hb dX4_init_23 rfl ?_
  have htpl : tp < t := by have := Atp.lt; omega
  have hxl : x < t := by have := hgt; omega
  refine z_callI cx (j := 1) (m_X5_init G l _ t 0 At (by omega) (mc := 4) (ms := 300) (Nat.le_refl _) (Nat.le_refl _)) (lw_meth q1130) q58 q1128 q1129 rfl (by decide +kernel) rfl (rest := [.ref t, .ref x]) rfl hl (Nat.le_of_ble_eq_true rfl) (by decide) (by omega) dX4_init_24 hS (fun q h => by rcases h with h | h; exact Or.inl (Nat.le_trans hS.1 h); exact Or.inl (by rw [h]; exact hgt)) (fun H locs hp24 hz9 hk9 hS => ?_)
  obtain ⟨c0, b0, k0, e0, ⟨g1, g2, g3, g4⟩, -, At, Ac, Ab, Ak, Ae⟩ := hp24
  have hx9 := hx9.kept (hk9 x hx9.lt (by rintro (h | h); exact absurd hx9.lt (Nat.not_lt.mpr h); omega))
  have Atp := Atp.kept (hk9 tp Atp.lt (by rintro (h | h); exact absurd Atp.lt (Nat.not_lt.mpr h); omega))
  have htx : Tx G (fun q => q ≠ x ∧ q ≠ tp) H t [] [] := ⟨⟨by omega, by omega⟩, c0, b0, k0, e0, _, _, _, At, ⟨⟨by omega, by omega⟩, ⟨by omega, by omega⟩, ⟨by omega, by omega⟩, ⟨by omega, by omega⟩⟩, Ac, Ab, Ak, Ae, ⟨List.length_replicate, List.length_replicate, List.length_replicate, Nat.zero_le _⟩, chs_nil, Nat.zero_le _, fun i q h => by simp at h⟩
  refine z_put cx (k0 := 6) (vs' := [.ref tp, .int (iI 0), .int (iI (-1)), .int (iI 0), .int (iI 0), .long 0, .ref t, .null, .int (iI 0)]) hx9 (Or.inr rfl) hS rfl in_X4 tyX4_ok nmX4 (by decide) q1161 rfl rfl  rfl (Nat.le_of_ble_eq_true rfl) ⟨rfl, rfl⟩ dX4_init_27 (fun H locs hx9 hz9 hq9 hS => ?_)
  have Atp := Atp.kept (hq9 _ ntx)
  have htx := htx.kp (Kp.put hq9 (fun q h => h.1))
  have hlx := hx9.lt
  have hlp := Atp.lt
  refine lv_aload_n hx hb dX4_init_30 rfl (lv_at hl 0 rfl) ?_
  refine lv_bipush (v := iI (25)) hx hb dX4_init_31 (by decide) ?_
  refine z_newT cx hS q1153 (25) (by omega) (by omega) dX4_init_33 (fun th H hth hgth Ath hz9 hE9 hS => ?_)
  have hx9 := hx9.ext hE9
  have Atp := Atp.ext hE9
  have htx : Tx G (PT x tp th []) H t [] [] := htx.kp (fun q hq h => ⟨⟨h.1, h.2, by omega, by simp⟩, hE9.2 q hq⟩)
  have nth : th ≠ x := by omega
  have ntp : tp ≠ th := by omega
  refine z_putF cx hmn (k0 := 7) (vs' := [.ref tp, .int (iI 0), .int (iI (-1)), .int (iI 0), .int (iI 0), .long 0, .ref t, .ref th, .int (iI 0)]) hx9 (Or.inr rfl) hS rfl in_X4 tyX4_ok nmX4 (by decide) q1162 rfl rfl rfl rfl (Nat.le_of_ble_eq_true rfl) ⟨rfl, rfl⟩ dX4_init_36 (fun H locs hx9 hz9 hq9 hS => ?_)
  have Atp := Atp.kept (hq9 _ ntx)
  have Ath := Ath.kept (hq9 _ nth)
  have htx := htx.kp (Kp.put hq9 (fun q h => h.1))
  exact z_vret cx hQ rfl (⟨tp, th, t, [], List.replicate 300 0, [], [], hx9, ⟨Atp, Ath, htx, rfl, fun i a t h => by simp at h⟩, ⟨(by show 0 + (List.replicate 300 (0 : Int)).length = 300; rw [List.length_replicate]), rfl, List.nodup_nil, hxb, by omega, by omega, fun a ha => by cases ha⟩, ⟨chs_nil, Nat.zero_le _, by show -1 ≤ (-1 : Int) ∧ (-1 : Int) ≤ 300; decide, by show 0 ≤ (0 : Int) ∧ (0 : Int) ≤ 1000000000; decide, Nat.zero_le _, by show 0 < 100000; decide⟩⟩) hS (by omega) dX4_init_39
