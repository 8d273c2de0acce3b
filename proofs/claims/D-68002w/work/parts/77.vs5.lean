/-! ===== the component: Line ===== -/
set_option maxHeartbeats 4000000 in
set_option maxRecDepth 100000 in
theorem m_X6_init (G : zE) (l : Launch) (H0 : Heap) (a nm vl : Nat) (h : Ob G H0 a 3 [.null, .null, .null]) {mc ms : Nat}  : zV G l yX6_init (ws_ yX6_init cX6_init 3 (none)) 1 20 mc ms [.ref a, .ref nm, .ref vl] H0 (fun H1 => Ob G H1 a 3 [.ref nm, .ref vl, .null]) (fun q => H0.size ≤ q ∨ q = a) := by
  refine zV.start (cc := cX6_init) (by decide) (Nat.le_of_ble_eq_true rfl) ?_
  intro p e s m args below meth c Q cx hQ hmn ls hl
  have hx := cx.1
  have hb := cx.2.1
  have hS : va_S (fun q => H0.size ≤ q ∨ q = a) H0 H0 [] := va_S.rf
  have hl : lv_has ls 3 [(0, .ref a), (1, .ref nm), (2, .ref vl)] := hl
  refine lv_aload_n hx hb dX6_init_0 rfl (lv_at hl 0 rfl) ?_
  refine z_obj cx q759 q70 q71 hl (Nat.le_of_ble_eq_true rfl) (by decide) dX6_init_1 ?_
  refine lv_aload_n hx hb dX6_init_4 rfl (lv_at hl 0 rfl) ?_
  refine lv_aload_n hx hb dX6_init_5 rfl (lv_at hl 1 rfl) ?_
  refine z_putF cx hmn (k0 := 0) (vs' := [.ref nm, .null, .null]) h (Or.inr rfl) hS rfl in_X6 tyX6_ok nmX6 (by decide) q760 rfl rfl rfl rfl (Nat.le_of_ble_eq_true rfl) ⟨rfl, rfl⟩ dX6_init_6 (fun H locs h hz9 hq9 hS => ?_)
  refine lv_aload_n hx hb dX6_init_9 rfl (lv_at hl 0 rfl) ?_
  refine lv_aload_n hx hb dX6_init_10 rfl (lv_at hl 2 rfl) ?_
  refine z_put cx (k0 := 1) (vs' := [.ref nm, .ref vl, .null]) h (Or.inr rfl) hS rfl in_X6 tyX6_ok nmX6 (by decide) q762 rfl rfl  rfl (Nat.le_of_ble_eq_true rfl) ⟨rfl, rfl⟩ dX6_init_11 (fun H locs h hz9 hq9 hS => ?_)
  exact z_vret cx hQ rfl h hS (by omega) dX6_init_14
set_option maxHeartbeats 4000000 in
set_option maxRecDepth 100000 in
theorem m_X6_more (G : zE) (l : Launch) (H0 : Heap) (P P' : Nat → Prop) (a nm vl y : Nat) (li : Option Nat) (xs ys : List Int) (hB : Bh G H0) (hab : G.2.heap.size ≤ a) (h : Ob G H0 a 3 [.ref nm, .ref vl, va_rf li]) (hv : St G P H0 vl xs) (hy : St G P' H0 y ys) (hn : xs.length ≤ 10000 ∧ ys.length ≤ 10000) {mc ms : Nat} (hmc : 5 ≤ mc) (hms : 4 * xs.length + 2 * ys.length + 70 ≤ ms) : zV G l yX6_more (ws_ yX6_more cX6_more 2 (none)) 15 340 mc ms [.ref a, .ref y] H0 (fun H1 => ∃ d : Nat, Ob G H1 a 3 [.ref nm, .ref d, .null] ∧ St G (Pur H0) H1 d (xs ++ 44 :: ys)) (fun q => H0.size ≤ q ∨ q = a) := by
  refine zV.start (cc := cX6_more) (by decide) (Nat.le_of_ble_eq_true rfl) ?_
  intro p e s m args below meth c Q cx hQ hmn ls hl
  have hx := cx.1
  have hb := cx.2.1
  have hS : va_S (fun q => H0.size ≤ q ∨ q = a) H0 H0 [] := va_S.rf
  have hl : lv_has ls 2 [(0, .ref a), (1, .ref y)] := hl
  have hB9 := hB.1
  have hBA : ∀ q, (H0.size ≤ q ∨ q = a) → G.2.heap.size ≤ q := fun q z => by rcases z with z | z; omega; omega
  have hal := h.lt
  have hch := hv.2.1
  have hcy := hy.2.1
  have hv := hv.kp (P' := fun q => q < H0.size) (Kp.weak (fun q hq _ => hq))
  have hy := hy.kp (P' := fun q => q < H0.size) (Kp.weak (fun q hq _ => hq))
  refine lv_aload_n hx hb dX6_more_0 rfl (lv_at hl 0 rfl) ?_
  refine z_new cx (ci := 9) (vs := [.null, .int (iI 0), .int (iI 0), .int (iI 0)]) hS rfl in_J4 tyJ4_ok q777 q126 q39 (zdefJ4) (by omega) dX6_more_1 (fun w H hw hgw Aw hz9 hE9 hS => ?_)
  have h := h.ext hE9
  refine lv_dup hx hb dX6_more_4 rfl ?_
  have hv := hv.ext hE9
  have hy := hy.ext hE9
  have hwa : w ≠ a := by omega
  refine lv_aload_n hx hb dX6_more_5 rfl (lv_at hl 0 rfl) ?_
  refine z_get cx (k0 := 1) h rfl in_X6 (by decide) q762 rfl rfl dX6_more_6 ?_
  have h8 := h
  refine z_callI cx (j := 1) (m_J4_init_2 G l _ (fun q => q < H0.size) w vl xs (.int (iI 0)) (hB.ofS hS hBA) (by omega) Aw hv (fun q z => by omega) (by omega) (mc := 1) (ms := xs.length + 16) (Nat.le_refl _) (Nat.le_refl _)) (lw_meth q780) q39 q778 q779 rfl (by decide +kernel) rfl (rest := [.ref w, .ref a]) rfl hl (Nat.le_of_ble_eq_true rfl) (by decide) (by omega) dX6_more_9 hS (fun q h => by rcases h with h | h; exact Or.inl (Nat.le_trans hS.1 h); exact Or.inl (by omega)) (fun H locs hp9 hz9 hk9 hS => ?_)
  obtain ⟨d, hgd, hw, Ad⟩ := hp9
  have hgs9 := hz9
  have hy := hy.kp (P' := fun q => q < H0.size) (fun q h1 h2 => ⟨h2, hk9 q h1 (by rintro (z | z); omega; omega)⟩)
  have h := h8.kept (hk9 a h8.lt (by rintro (z | z); exact absurd h8.lt (Nat.not_lt.mpr z); exact hwa z.symm))
  have hwd : H0.size ≤ d := by omega
  refine lv_bipush (v := iI (44)) hx hb dX6_more_12 (by decide) ?_
  have h8 := h
  refine z_callV cx (j := 1) (m_J4_append G l _ w d 16 xs (.int (iI 0)) 44 (hB.ofS hS hBA) ⟨by omega, by omega⟩ hw Ad hch (by omega) (by omega) (mc := 0) (ms := 0) (by rw [if_neg (by omega)]; exact Nat.le_refl _) (by rw [if_neg (by omega)]; exact Nat.le_refl _)) (lw_V q789 q204 q205 q39 q206) (zrecv cx hw rfl) (by decide +kernel) rfl (rest := [.ref a]) rfl hl (Nat.le_of_ble_eq_true rfl) (by decide) (by omega) dX6_more_14 hS (fun q h => by rcases h with h | h | h; exact Or.inl (Nat.le_trans hS.1 h); exact Or.inl (by omega); exact Or.inl (by omega)) (fun v14 H locs hp14 hz9 hk9 hS => ?_)
  obtain ⟨rfl, d2, hd2, hw, Ad⟩ := hp14
  rw [if_neg (by omega)] at Ad
  have hy := hy.kp (P' := fun q => q < H0.size) (fun q h1 h2 => ⟨h2, hk9 q h1 (by rintro (z | z | z); omega; omega; omega)⟩)
  have h := h8.kept (hk9 a h8.lt (by rintro (z | z | z); exact absurd h8.lt (Nat.not_lt.mpr z); exact hwa z.symm; omega))
  have hgd2 : H0.size ≤ d2 := by rcases hd2 with e | e; omega; have := hS.1; omega
  have e1 : xs.length + 1 = (xs ++ [44]).length := by rw [List.length_append, List.length_singleton]
  rw [e1] at hw
  have hch2 : chs (xs ++ [44]) := chs_app hch (fun c hc => by rw [List.mem_singleton.mp hc]; omega)
  refine lv_aload_n hx hb dX6_more_17 rfl (lv_at hl 1 rfl) ?_
  have h8 := h
  obtain ⟨N3, hN3⟩ : ∃ N3, N3 = (if ys.length ≤ 16 - 1 then 0 else max ((xs ++ [44]).length + ys.length) (2 * ((xs ++ [44]).length + (16 - 1)) + 2)) := ⟨_, rfl⟩
  have hN3b : N3 ≤ 2 * xs.length + ys.length + 34 := by rw [hN3, ← e1]; split <;> omega
  refine z_callV cx (j := 1) (m_J4_append_3 G l _ (fun q => q < H0.size) w d2 (16 - 1) y (xs ++ [44]) ys (.int (iI 0)) (hB.ofS hS hBA) ⟨by omega, by omega⟩ hw Ad hch2 hy (fun q z => by omega) (by rw [← e1]; omega) (mc := 1) (ms := N3) (by split <;> omega) (by rw [hN3]; exact Nat.le_refl _)) (lw_V q790 q392 q393 q39 q394) (zrecv cx hw rfl) (by decide +kernel) rfl (rest := [.ref a]) rfl hl (Nat.le_of_ble_eq_true rfl) (by decide) (by omega) dX6_more_18 hS (fun q h => by rcases h with h | h | h; exact Or.inl (Nat.le_trans hS.1 h); exact Or.inl (by omega); exact Or.inl (by omega)) (fun v18 H locs hp18 hz9 hk9 hS => ?_)
  obtain ⟨rfl, d3, hd3, hw, Ad⟩ := hp18
  have h := h8.kept (hk9 a h8.lt (by rintro (z | z | z); exact absurd h8.lt (Nat.not_lt.mpr z); exact hwa z.symm; omega))
  have e2 : (xs ++ [44]).length + ys.length = ((xs ++ [44]) ++ ys).length := by rw [List.length_append (as := xs ++ [44])]
  rw [e2] at hw
  obtain ⟨R3, hR3⟩ : ∃ R3, R3 = (if ys.length ≤ 16 - 1 then 16 - 1 - ys.length else max ((xs ++ [44]).length + ys.length) (2 * ((xs ++ [44]).length + (16 - 1)) + 2) - ((xs ++ [44]).length + ys.length)) := ⟨_, rfl⟩
  rw [← hR3] at Ad
  have hR3b : R3 ≤ 2 * xs.length + 60 := by rw [hR3, ← e1]; split <;> omega
  have e3 : (xs ++ [44]) ++ ys = xs ++ 44 :: ys := by rw [List.append_assoc]; rfl
  have hgs21 := hS.1
  refine z_callV cx (j := 0) (m_J4_toString G l _ w d3 R3 ((xs ++ [44]) ++ ys) (.int (iI 0)) (hB.ofS hS hBA) hw Ad (chs_app hch2 hcy) (by rw [← e2, ← e1]; omega) (mc := 2) (ms := xs.length + 1 + ys.length + 4) (Nat.le_refl _) (by rw [← e2, ← e1]; exact Nat.le_refl _)) (lw_V q791 q279 q280 q39 q281) (zrecv cx hw rfl) (by decide +kernel) rfl (rest := [.ref a]) rfl hl (Nat.le_of_ble_eq_true rfl) (by decide) (by omega) dX6_more_21 hS (fun q h => Or.inl (Nat.le_trans hS.1 h)) (fun v21 H locs hp21 hz9 hk9 hS => ?_)
  have hE9 := Ext.of hz9 hk9 (fun q h => h)
  obtain ⟨t, rfl, ht⟩ := hp21
  have hw := hw.ext hE9
  have h := h.ext hE9
  have ht := ht.kp (P' := fun q => H0.size ≤ q ∧ q ≠ a) (Kp.weak (fun q _ z => by have z : _ ≤ q := z; omega))
  rw [e3] at ht
  refine z_put cx (k0 := 1) (vs' := [.ref nm, .ref t, va_rf li]) h (Or.inr rfl) hS rfl in_X6 tyX6_ok nmX6 (by decide) q762 rfl rfl  rfl (Nat.le_of_ble_eq_true rfl) ⟨rfl, rfl⟩ dX6_more_24 (fun H locs h hz9 hq9 hS => ?_)
  have ht := ht.kp (P' := fun q => H0.size ≤ q ∧ q ≠ a) (Kp.put hq9 (fun q h => h.2))
  refine lv_aload_n hx hb dX6_more_27 rfl (lv_at hl 0 rfl) ?_
  refine lv_null hx hb dX6_more_28 ?_
  refine z_put cx (k0 := 2) (vs' := [.ref nm, .ref t, .null]) h (Or.inr rfl) hS rfl in_X6 tyX6_ok nmX6 (by decide) q764 rfl rfl  rfl (Nat.le_of_ble_eq_true rfl) ⟨rfl, rfl⟩ dX6_more_29 (fun H locs h hz9 hq9 hS => ?_)
  have ht := ht.kp (P' := Pur H0) (fun q _ z => ⟨z.1, hq9 q z.2⟩)
  exact z_vret cx hQ rfl (⟨t, h, ht⟩) hS (by omega) dX6_more_32
set_option maxHeartbeats 4000000 in
set_option maxRecDepth 100000 in
theorem m_X6_listed (G : zE) (l : Launch) (H0 : Heap) (P : Nat → Prop) (a nm vl : Nat) (li : Option Nat) (xs : List Int) (hB : Bh G H0) (hab : G.2.heap.size ≤ a) (h : Ob G H0 a 3 [.ref nm, .ref vl, va_rf li]) (hv : St G P H0 vl xs) (hn : xs.length ≤ 3000) {mc ms : Nat} (hmc : li = none → 7 * xs.length + 20 ≤ mc) (hms : li = none → 26 * xs.length + 300 ≤ ms) : zR G l yX6_listed (ws_ yX6_listed cX6_listed 4 (some (FieldType.object "java/lang/String"))) 12 274 mc ms [.ref a] H0 (fun r9 H1 => ∃ d : Nat, r9 = .ref d ∧ Ob G H1 a 3 [.ref nm, .ref vl, .ref d] ∧ (li = some d ∨ St G (Pur H0) H1 d (lsd xs))) (fun q => H0.size ≤ q ∨ q = a) := by
  refine zR.start (cc := cX6_listed) (by decide) (Nat.le_of_ble_eq_true rfl) ?_
  intro p e s m args below meth c Q cx hQ hmn ls hl
  have hx := cx.1
  have hb := cx.2.1
  have hS : va_S (fun q => H0.size ≤ q ∨ q = a) H0 H0 [] := va_S.rf
  have hl : lv_has ls 4 [(0, .ref a)] := hl
  have hB9 := hB.1
  have hBA : ∀ q, (H0.size ≤ q ∨ q = a) → G.2.heap.size ≤ q := fun q z => by rcases z with z | z; omega; omega
  have hal := h.lt
  have hch := hv.2.1
  have hv := hv.kp (P' := fun q => q < H0.size) (Kp.weak (fun q hq _ => hq))
  rcases li with _ | li
  · have hmc := hmc rfl
    have hms := hms rfl
    refine lv_aload_n hx hb dX6_listed_0 rfl (lv_at hl 0 rfl) ?_
    refine z_get cx (k0 := 2) h rfl in_X6 (by decide) q764 rfl rfl dX6_listed_1 ?_
    refine lv_ifnonnullN hx hb dX6_listed_4 ?_
    refine z_new cx (ci := 9) (vs := [.null, .int (iI 0), .int (iI 0), .int (iI 0)]) hS rfl in_J4 tyJ4_ok q777 q126 q39 (zdefJ4) (by omega) dX6_listed_7 (fun w H hw hgw Aw hz9 hE9 hS => ?_)
    have h := h.ext hE9
    have hv := hv.ext hE9
    have hwa : w ≠ a := by omega
    refine lv_dup hx hb dX6_listed_10 rfl ?_
    have h8 := h
    refine z_callI cx (j := 0) (m_J4_init G l _ w (.int (iI 0)) (.int (iI 0)) (hB.ofS hS hBA) (by omega) Aw (mc := 1) (ms := 16) (Nat.le_refl _) (Nat.le_refl _)) (lw_meth q129) q39 q818 q128 rfl (by decide +kernel) rfl (rest := [.ref w]) rfl hl (Nat.le_of_ble_eq_true rfl) (by decide) (by omega) dX6_listed_11 hS (fun q h => by rcases h with h | h; exact Or.inl (Nat.le_trans hS.1 h); exact Or.inl (by omega)) (fun H locs hp11 hz9 hk9 hS => ?_)
    obtain ⟨d, hgd, hw, Ad⟩ := hp11
    have hv := hv.kp (P' := fun q => q < H0.size) (fun q h1 h2 => ⟨h2, hk9 q h1 (by rintro (z | z); omega; omega)⟩)
    have h := h8.kept (hk9 a h8.lt (by rintro (z | z); exact absurd h8.lt (Nat.not_lt.mpr z); exact hwa z.symm))
    have hgs9 := hz9
    have hwl := hw.lt
    have hdl := Ad.lt
    have hgs11 := hS.1
    refine lv_astore_n (lv' := [(1, .ref w), (0, .ref a)]) hx hb dX6_listed_14 rfl hl (by decide) rfl (fun ls hl => ?_)
    refine lv_aload_n hx hb dX6_listed_15 rfl (lv_at hl 1 rfl) ?_
    refine z_get cx (k0 := 1) h rfl in_X6 (by decide) q762 rfl rfl dX6_listed_16 ?_
    refine z_callSN cx (j := 1) (m_X1_cut G l _ _ vl xs (hB.ofS hS hBA) hv hn (mc := 5 * xs.length + 6) (ms := 18 * xs.length + 80) (Nat.le_refl _) (Nat.le_refl _)) q819 (lw_meth q470) q469 q32 (by decide +kernel) rfl (rest := []) rfl hl (Nat.le_of_ble_eq_true rfl) (by decide) (by omega) dX6_listed_19 hS (fun q h => Or.inl (Nat.le_trans hS.1 h)) (fun v19 H locs hp19 hz9 hk9 hS => ?_)
    have hE9 := Ext.of hz9 hk9 (fun q h => h)
    obtain ⟨L, rfl, hgL, hLL⟩ := hp19
    have h := h.ext hE9
    have hw := hw.ext hE9
    have Ad := Ad.ext hE9
    have hLL := hLL.kp (P' := fun q => q ≠ w ∧ q ≠ d) cx.kk.1 (Kp.weak (fun q _ z => by rcases z with z | z | z <;> omega))
    have hLs := lst_sum xs
    have hLn := lst_len xs
    have hLc := lst_chs hch
    obtain ⟨XL, hXL⟩ : ∃ XL, XL = lst xs := ⟨_, rfl⟩
    have hlsd : lsd xs = XL.flatMap (fun x => x ++ [44]) := by rw [lsd, hXL]
    rw [← hXL] at hLL hLs hLn hLc
    have hLs : sL XL + XL.length ≤ xs.length + 1 := hLs
    refine lv_astore_n (lv' := [(2, .ref L), (1, .ref w), (0, .ref a)]) hx hb dX6_listed_22 rfl hl (by decide) rfl (fun ls hl => ?_)
    refine lv_iconst (v := iI (0)) hx hb dX6_listed_23 rfl ?_
    refine lv_istore_n (lv' := [(3, .int (iI 0)), (2, .ref L), (1, .ref w), (0, .ref a)]) hx hb dX6_listed_24 rfl hl (by decide) rfl (fun ls hl => ?_)
    have lp : ∀ (fuel : Nat) (j b r : Nat) (Y : List Int), (XL.length - j) < fuel → (j ≤ XL.length) → (Y = (XL.take j).flatMap (fun x => x ++ [44])) → (H0.size ≤ b) → (Y.length + r ≤ 2 * xs.length + 18) → ∀ (H : Heap) (locs : List Loc) (ls : Array Slot) (k n : Nat), va_S (fun q => H0.size ≤ q ∨ q = a) H0 H locs → Ob G H a 3 [.ref nm, .ref vl, .null] → Ob G H w 9 [.ref b, .int (iI 0), .int (iI 0), .int (iI ↑Y.length)] → Ai G H b 100 (Y ++ List.replicate r 0) → (LSt G (fun q => q ≠ w ∧ q ≠ b) H L XL) → (k + 2 * (XL.length - j) + 2 ≤ mc) → (n + 2 * (2 * xs.length + 18) + (xs.length + 1) + 4 ≤ ms + 2 * (Y.length + r)) → lv_has ls 4 [(0, .ref a), (1, .ref w), (2, .ref L), (3, .int (iI ↑j))] → W p l e ⟨12, mc, ms, 274⟩ s m args below meth c H locs k n Q (F0 m 25 ls []) := by
      intro fuel
      induction fuel with
      | zero => intro j b r Y hf9; exact absurd hf9 (Nat.not_lt_zero _)
      | succ fuel ih_lp =>
        intro j b r Y hf9 hj hY hgb hcap H locs ls k n hS h hw Ab hLL hr1 hr2 hl
        have hYl : Y.length ≤ xs.length + 1 := by rw [hY, flat_len]; have := sL_take_le XL j; omega
        have hYc : chs Y := by rw [hY]; exact chs_flat (fun x hx => hLc x (List.mem_of_mem_take hx))
        have hLL9 := hLL
        obtain ⟨edL, rsL, capL, mL, hPL, hL1, hL2, hLp, hL9, hst⟩ := hLL9
        refine lv_iload_n hx hb dX6_listed_25 rfl (lv_at hl 3 rfl) ?_
        refine lv_aload_n hx hb dX6_listed_26 rfl (lv_at hl 2 rfl) ?_
        refine z_callV cx (j := 0) (m_J2_size G l _ L (rsL.length : Int) (.int (iI mL)) (.ref edL) hL1 (mc := 0) (ms := 0)) (lw_V q820 q546 q547 q35 q548) (zrecv cx hL1 rfl) (by decide +kernel) rfl (rest := [.int (iI ↑j)]) rfl hl (Nat.le_of_ble_eq_true rfl) (by decide) (by omega) dX6_listed_27 hS (fun q h => Or.inl (Nat.le_trans hS.1 h)) (fun v27 H locs hp27 hz9 hk9 hS => ?_)
        have hE9 := Ext.of hz9 hk9 (fun q h => h)
        have h := h.ext hE9
        have hw := hw.ext hE9
        have Ab := Ab.ext hE9
        have hL1 := hL1.ext hE9
        subst hp27
        have hLL := hLL.ext cx.kk.1 hE9
        have hL2 := hL2.ext hE9
        refine z_icmp_ge cx (tgt := 57) dX6_listed_30 (by decide) (by omega) (fun c30 => ?_) (fun c30 => ?_)
        · have e1 : Y = lsd xs := by rw [hlsd, hY, List.take_of_length_le (by omega)]
          have hgs8 := hS.1
          refine lv_aload_n hx hb dX6_listed_57 rfl (lv_at hl 0 rfl) ?_
          refine lv_aload_n hx hb dX6_listed_58 rfl (lv_at hl 1 rfl) ?_
          refine z_callV cx (j := 0) (m_J4_toString G l _ w b r Y (.int (iI 0)) (hB.ofS hS hBA) hw Ab hYc (by omega) (mc := 2) (ms := Y.length + 4) (Nat.le_refl _) (Nat.le_refl _)) (lw_V q791 q279 q280 q39 q281) (zrecv cx hw rfl) (by decide +kernel) rfl (rest := [.ref a]) rfl hl (Nat.le_of_ble_eq_true rfl) (by decide) (by omega) dX6_listed_59 hS (fun q h => Or.inl (Nat.le_trans hS.1 h)) (fun v59 H locs hp59 hz9 hk9 hS => ?_)
          have hE9 := Ext.of hz9 hk9 (fun q h => h)
          obtain ⟨t, rfl, ht⟩ := hp59
          have h := h.ext hE9
          have hw := hw.ext hE9
          have Ab := Ab.ext hE9
          have hL1 := hL1.ext hE9
          have ht := ht.kp (P' := fun q => H0.size ≤ q ∧ q ≠ a) (Kp.weak (fun q _ z => by have z : _ ≤ q := z; omega))
          rw [e1] at ht
          refine z_put cx (k0 := 2) (vs' := [.ref nm, .ref vl, .ref t]) h (Or.inr rfl) hS rfl in_X6 tyX6_ok nmX6 (by decide) q764 rfl rfl  rfl (Nat.le_of_ble_eq_true rfl) ⟨rfl, rfl⟩ dX6_listed_62 (fun H locs h hz9 hq9 hS => ?_)
          refine lv_aload_n hx hb dX6_listed_65 rfl (lv_at hl 0 rfl) ?_
          refine z_get cx (k0 := 2) h rfl in_X6 (by decide) q764 rfl rfl dX6_listed_66 ?_
          have ht := ht.kp (P' := Pur H0) (fun q _ z => ⟨z.1, hq9 q z.2⟩)
          exact z_aret cx hQ rfl (Or.inl ⟨_, rfl⟩) (⟨t, rfl, h, Or.inr ht⟩) hS (by omega) dX6_listed_69
        · obtain ⟨x9, hx9⟩ : ∃ x, XL[j]? = some x := ⟨_, List.getElem?_eq_getElem (by omega)⟩
          obtain ⟨w9, hw9⟩ : ∃ w, rsL[j]? = some w := ⟨_, List.getElem?_eq_getElem (by omega)⟩
          have hgd9 : rsL.getD j 0 = w9 := by rw [List.getD_eq_getElem?_getD, hw9]; rfl
          have hstx := (hst j w9 x9 hw9 hx9).ext hE9
          have hft : (XL.take (j + 1)).flatMap (fun x => x ++ [44]) = Y ++ x9 ++ [44] := by rw [flat_take hx9, ← hY]
          have hfl : Y.length + x9.length + 1 ≤ xs.length + 1 := by
            have h1 := flat_len (XL.take (j + 1))
            rw [hft, List.length_append, List.length_append, List.length_singleton] at h1
            have := sL_take_le XL (j + 1)
            omega
          have hxc := hLc x9 (List.mem_of_getElem? hx9)
          refine lv_aload_n hx hb dX6_listed_33 rfl (lv_at hl 1 rfl) ?_
          refine lv_aload_n hx hb dX6_listed_34 rfl (lv_at hl 2 rfl) ?_
          refine lv_iload_n hx hb dX6_listed_35 rfl (lv_at hl 3 rfl) ?_
          refine z_callV cx (j := 1) (m_J2_get G l _ L edL j capL rsL (.int (iI mL)) hL1 hL2 ⟨by omega, by omega⟩ (mc := 0) (ms := 0)) (lw_V q821 q550 q551 q35 q552) (zrecv cx hL1 rfl) (by decide +kernel) rfl (rest := [.ref w]) rfl hl (Nat.le_of_ble_eq_true rfl) (by decide) (by omega) dX6_listed_36 hS (fun q h => Or.inl (Nat.le_trans hS.1 h)) (fun v36 H locs hp36 hz9 hk9 hS => ?_)
          have hE9 := Ext.of hz9 hk9 (fun q h => h)
          have h := h.ext hE9
          have hw := hw.ext hE9
          have Ab := Ab.ext hE9
          have hL1 := hL1.ext hE9
          subst hp36
          have hLL := hLL.ext cx.kk.1 hE9
          have hstx := hstx.ext hE9
          rw [hgd9]
          have hstx8 := hstx
          obtain ⟨-, -, -, b8, -, hs8, -⟩ := hstx8
          refine va_castE hx hb cx.wn (cx.ts _ q822) (zrecvS cx hs8) dX6_listed_39 ?_
          have h8 := h
          have hB8 := hS.1
          obtain ⟨N3, hN3⟩ : ∃ N3, N3 = (if x9.length ≤ r then 0 else max (Y.length + x9.length) (2 * (Y.length + r) + 2)) := ⟨_, rfl⟩
          obtain ⟨R3, hR3⟩ : ∃ R3, R3 = (if x9.length ≤ r then r - x9.length else max (Y.length + x9.length) (2 * (Y.length + r) + 2) - (Y.length + x9.length)) := ⟨_, rfl⟩
          have hNR : N3 + 2 * (Y.length + r) ≤ 2 * (Y.length + x9.length + R3) ∧ Y.length + x9.length + R3 ≤ 2 * xs.length + 18 := by rw [hN3, hR3]; clear hN3 hR3; split <;> omega
          have hN3b : (if x9.length ≤ r then 0 else max (Y.length + x9.length) (2 * (Y.length + r) + 2)) ≤ N3 := by rw [hN3]; exact Nat.le_refl _
          have hN3c : (if x9.length ≤ r then 0 else 1) ≤ 1 := by split <;> omega
          refine z_callV cx (j := 1) (m_J4_append_3 G l _ _ w b r w9 Y x9 (.int (iI 0)) (hB.ofS hS hBA) ⟨by omega, by omega⟩ hw Ab hYc hstx (fun q z => z) (by omega) (mc := 1) (ms := N3) hN3c hN3b) (lw_V q790 q392 q393 q39 q394) (zrecv cx hw rfl) (by decide +kernel) rfl (rest := []) rfl hl (Nat.le_of_ble_eq_true rfl) (by decide) (by omega) dX6_listed_42 hS (fun q h => by rcases h with h | h | h; exact Or.inl (Nat.le_trans hS.1 h); exact Or.inl (by omega); exact Or.inl (by omega)) (fun v42 H locs hp42 hz9 hk9 hS => ?_)
          obtain ⟨rfl, d3, hd3, hw, Ab⟩ := hp42
          rw [← hR3] at Ab
          clear hN3 hN3b hN3c
          have h := h8.kept (hk9 a h8.lt (by rintro (z | z | z); exact absurd h8.lt (Nat.not_lt.mpr z); exact hwa z.symm; omega))
          have hLL := hLL.kp (P' := fun q => q ≠ w ∧ q ≠ d3) cx.kk.1 (fun q h1 h2 => ⟨⟨h2.1, by rcases hd3 with e | e; rw [e.1]; exact h2.2; omega⟩, hk9 q h1 (by rintro (z | z | z); omega; exact h2.1 z; exact h2.2 z)⟩)
          have hgb3 : H0.size ≤ d3 := by rcases hd3 with e | e <;> omega
          have e2 : Y.length + x9.length = (Y ++ x9).length := by rw [List.length_append]
          rw [e2] at hw
          have hYc2 : chs (Y ++ x9) := chs_app hYc hxc
          refine lv_bipush (v := iI (44)) hx hb dX6_listed_45 (by decide) ?_
          have h8 := h
          obtain ⟨N4, hN4⟩ : ∃ N4, N4 = (if R3 = 0 then 2 * (Y ++ x9).length + 2 else 0) := ⟨_, rfl⟩
          obtain ⟨R4, hR4⟩ : ∃ R4, R4 = (if R3 = 0 then (Y ++ x9).length + 1 else R3 - 1) := ⟨_, rfl⟩
          have hNR4 : N4 + 2 * (Y.length + x9.length + R3) ≤ 2 * (Y.length + x9.length + 1 + R4) ∧ Y.length + x9.length + 1 + R4 ≤ 2 * xs.length + 18 := by rw [hN4, hR4, ← e2]; clear hN4 hR4; split <;> omega
          have hN4b : (if R3 = 0 then 2 * (Y ++ x9).length + 2 else 0) ≤ N4 := by rw [hN4]; exact Nat.le_refl _
          have hN4c : (if R3 = 0 then 1 else 0) ≤ 1 := by split <;> omega
          refine z_callV cx (j := 1) (m_J4_append G l _ w d3 R3 (Y ++ x9) (.int (iI 0)) 44 (hB.ofS hS hBA) ⟨by omega, by omega⟩ hw Ab hYc2 (by omega) (by rw [← e2]; omega) (mc := 1) (ms := N4) hN4c hN4b) (lw_V q789 q204 q205 q39 q206) (zrecv cx hw rfl) (by decide +kernel) rfl (rest := []) rfl hl (Nat.le_of_ble_eq_true rfl) (by decide) (by omega) dX6_listed_47 hS (fun q h => by rcases h with h | h | h; exact Or.inl (Nat.le_trans hS.1 h); exact Or.inl (by omega); exact Or.inl (by omega)) (fun v47 H locs hp47 hz9 hk9 hS => ?_)
          obtain ⟨rfl, d4, hd4, hw, Ab⟩ := hp47
          rw [← hR4] at Ab
          clear hN4 hN4b hN4c
          have h := h8.kept (hk9 a h8.lt (by rintro (z | z | z); exact absurd h8.lt (Nat.not_lt.mpr z); exact hwa z.symm; omega))
          have hLL := hLL.kp (P' := fun q => q ≠ w ∧ q ≠ d4) cx.kk.1 (fun q h1 h2 => ⟨⟨h2.1, by rcases hd4 with e | e; rw [e.1]; exact h2.2; omega⟩, hk9 q h1 (by rintro (z | z | z); omega; exact h2.1 z; exact h2.2 z)⟩)
          have hgb4 : H0.size ≤ d4 := by rcases hd4 with e | e <;> omega
          have e3 : (Y ++ x9).length + 1 = (Y ++ x9 ++ [44]).length := by rw [List.length_append (as := Y ++ x9), List.length_singleton]
          rw [e3] at hw
          have e4 : (Y ++ x9 ++ [44]).length = Y.length + x9.length + 1 := by rw [← e3, ← e2]
          refine lv_pop hx hb dX6_listed_50 rfl ?_
          refine z_iinc cx (j := 3) (z := ((j + 1 : Nat) : Int)) (lv' := [(3, .int (iI ((j + 1 : Nat) : Int))), (0, .ref a), (1, .ref w), (2, .ref L)]) dX6_listed_51 hl rfl (by omega) (by decide) rfl (fun ls hl => ?_)
          refine lv_goto (tgt := 25) hx hb dX6_listed_54 (by decide) ?_
          exact ih_lp (j + 1) d4 R4 (Y ++ x9 ++ [44]) (by omega) (by omega) hft.symm hgb4 (by rw [e4]; omega) _ _ _ _ _ hS h hw Ab hLL (by omega) (by rw [e4]; omega) (lv_sub hl [1, 2, 3, 0] rfl)
    exact lp _ 0 d 16 [] (Nat.lt_succ_self _) (Nat.zero_le _) rfl (by omega) (by rw [List.length_nil]; omega) _ _ _ _ _ hS h hw Ad hLL (by omega) (by rw [List.length_nil]; omega) (lv_sub hl [3, 2, 1, 0] rfl)
  · refine lv_aload_n hx hb dX6_listed_0 rfl (lv_at hl 0 rfl) ?_
    refine z_get cx (k0 := 2) h rfl in_X6 (by decide) q764 rfl rfl dX6_listed_1 ?_
    refine lv_ifnonnull (tgt := 65) hx hb dX6_listed_4 (by decide) ?_
    refine lv_aload_n hx hb dX6_listed_65 rfl (lv_at hl 0 rfl) ?_
    refine z_get cx (k0 := 2) h rfl in_X6 (by decide) q764 rfl rfl dX6_listed_66 ?_
    exact z_aret cx hQ rfl (Or.inl ⟨_, rfl⟩) (⟨li, rfl, h, Or.inl rfl⟩) hS (by omega) dX6_listed_69
