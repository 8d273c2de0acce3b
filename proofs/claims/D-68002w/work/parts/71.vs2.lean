/-! ===== the component: what stands between commas ===== -/
set_option maxHeartbeats 4000000 in
set_option maxRecDepth 100000 in
theorem m_X1_cut (G : zE) (l : Launch) (H0 : Heap) (P : Nat → Prop) (a : Nat) (xs : List Int) (hB : Bh G H0) (h0 : St G P H0 a xs) (hn : xs.length ≤ 3000) {mc ms : Nat} (hmc : 5 * xs.length + 6 ≤ mc) (hms : 18 * xs.length + 80 ≤ ms) : zR G l yX1_cut (ws_ yX1_cut cX1_cut 5 (some (FieldType.object "java/util/ArrayList"))) 7 191 mc ms [.ref a] H0 (fun r H1 => ∃ d : Nat, r = .ref d ∧ H0.size ≤ d ∧ LSt G (PN G P H0) H1 d (lst xs)) (Pur H0) := by
  refine zR.start (cc := cX1_cut) (by decide) (Nat.le_of_ble_eq_true rfl) ?_
  intro p e s m args below meth c Q cx hQ hmn ls hl
  have hx := cx.1
  have hb := cx.2.1
  have hS : va_S (Pur H0) H0 H0 [] := va_S.rf
  have hl : lv_has ls 5 [(0, .ref a)] := hl
  have h1 := h0.kp (P' := fun q => P q ∧ q < H0.size) (Kp.weak (fun q hq hp => ⟨hp, hq⟩))
  have h3 := h0
  obtain ⟨-, hch, hln, b0, -, hs, -⟩ := h3
  have hB9 := hB.1
  refine z_new cx (ci := 8) (vs := [.int (iI 0), .null, .int (iI 0)]) hS rfl in_J2 tyJ2_ok q72 q73 q35 (zdefJ2) (by omega) dX1_cut_0 (fun L H hL hgL AL hz9 hE9 hS => ?_)
  refine lv_dup hx hb dX1_cut_3 rfl ?_
  refine z_callI cx (j := 0) (m_J2_init G l _ L (.int (iI 0)) .null (.int (iI 0)) (hB.ext (Ext.ofS hS)) (by omega) AL (mc := 0) (ms := 0)) (lw_meth q76) q35 q74 q75 rfl (by decide +kernel) rfl (rest := [.ref L]) rfl hl (Nat.le_of_ble_eq_true rfl) (by decide) (by omega) dX1_cut_4 hS (fun q h => by rcases h with h | h; exact Nat.le_trans hS.1 h; exact h ▸ hgL) (fun H locs hp4 hz9 hk9 hS => ?_)
  have hL := hp4
  refine lv_astore_n (lv' := [(1, .ref L), (0, .ref a)]) hx hb dX1_cut_7 rfl hl (by decide) rfl (fun ls hl => ?_)
  refine lv_iconst (v := iI (0)) hx hb dX1_cut_8 rfl ?_
  refine lv_istore_n (lv' := [(2, .int (iI 0)), (1, .ref L), (0, .ref a)]) hx hb dX1_cut_9 rfl hl (by decide) rfl (fun ls hl => ?_)
  refine lv_iconst (v := iI (0)) hx hb dX1_cut_10 rfl ?_
  refine lv_istore_n (lv' := [(3, .int (iI 0)), (2, .int (iI 0)), (1, .ref L), (0, .ref a)]) hx hb dX1_cut_11 rfl hl (by decide) rfl (fun ls hl => ?_)
  have hlb : LB G (PN G P H0) H L (e0 G) [] [] := LB.nil
  have hed9 : EDok G H (e0 G) [] 0 := Or.inl ⟨rfl, rfl, rfl⟩
  have lp : ∀ (fuel : Nat) (f j ed cap : Nat) (mz : Int) (rs : List Nat) (Z : List (List Int)), (xs.length + 1 - j) < fuel → (f ≤ j ∧ j ≤ xs.length + 1) → (lst xs = Z ++ lst (xs.drop f)) → (∀ c ∈ sl xs f j, c ≠ 44) → (j = xs.length + 1 → f = j) → (rs.length ≤ j) → (cap ≤ 10 + 2 * (xs.length + 2)) → (ed = e0 G ∨ H0.size ≤ ed) → ∀ (H : Heap) (locs : List Loc) (ls : Array Slot) (k n : Nat), va_S (Pur H0) H0 H locs → Ob G H L 8 [.int (iI mz), .ref ed, .int (iI ↑rs.length)] → EDok G H ed rs cap → (LB G (PN G P H0) H L ed rs Z) → (k + 5 * (xs.length + 1 - j) ≤ mc) → (n + 2 * (xs.length - f) + 8 * (xs.length + 1 - j) + 4 * (10 + 2 * (xs.length + 2)) ≤ ms + 4 * cap) → lv_has ls 5 [(0, .ref a), (1, .ref L), (2, .int (iI ↑f)), (3, .int (iI ↑j))] → W p l e ⟨7, mc, ms, 191⟩ s m args below meth c H locs k n Q (F0 m 12 ls []) := by
    intro fuel
    induction fuel with
    | zero => intro f j ed cap mz rs Z hf9; exact absurd hf9 (Nat.not_lt_zero _)
    | succ fuel ih_lp =>
      intro f j ed cap mz rs Z hf9 hj he hno hfe hrl hcp hge H locs ls k n hS hL hed hlb hr1 hr2 hl
      refine lv_iload_n hx hb dX1_cut_12 rfl (lv_at hl 3 rfl) ?_
      refine lv_aload_n hx hb dX1_cut_13 rfl (lv_at hl 0 rfl) ?_
      refine z_callV cx (j := 0) (m_J5_length G l _ P a xs (hB.ext (Ext.ofS hS)) (h0.ext (Ext.ofS hS)) (mc := 0) (ms := 0)) (lw_V q156 q157 q158 q40 q159) (zrecvS cx (hs.ext (Ext.ofS hS))) (by decide +kernel) rfl (rest := [.int (iI ↑j)]) rfl hl (Nat.le_of_ble_eq_true rfl) (by decide) (by omega) dX1_cut_14 hS (fun q h => Nat.le_trans hS.1 h) (fun v14 H locs hp14 hz9 hk9 hS => ?_)
      have hE9 := Ext.of hz9 hk9 (fun q h => h)
      have hL := hL.ext hE9
      have hed := hed.ext hE9
      subst hp14
      have hlb := hlb.ext hE9
      refine z_icmp_gt cx (tgt := 77) dX1_cut_17 (by decide) (by omega) (fun c17 => ?_) (fun c17 => ?_)
      · have e1 : lst xs = Z := by rw [he, hfe (by omega), List.drop_eq_nil_of_le (by omega), lst_nil, List.append_nil]
        refine lv_aload_n hx hb dX1_cut_77 rfl (lv_at hl 1 rfl) ?_
        exact z_aret cx hQ rfl (Or.inl ⟨_, rfl⟩) (⟨L, rfl, hgL, by rw [e1]; exact hlb.fin (Or.inr (Or.inl hgL)) (hge.imp id (fun z => Or.inr (Or.inl z))) hL hed (by omega)⟩) hS (by omega) dX1_cut_78
      · refine lv_iload_n hx hb dX1_cut_20 rfl (lv_at hl 3 rfl) ?_
        refine lv_aload_n hx hb dX1_cut_21 rfl (lv_at hl 0 rfl) ?_
        refine z_callV cx (j := 0) (m_J5_length G l _ P a xs (hB.ext (Ext.ofS hS)) (h0.ext (Ext.ofS hS)) (mc := 0) (ms := 0)) (lw_V q156 q157 q158 q40 q159) (zrecvS cx (hs.ext (Ext.ofS hS))) (by decide +kernel) rfl (rest := [.int (iI ↑j)]) rfl hl (Nat.le_of_ble_eq_true rfl) (by decide) (by omega) dX1_cut_22 hS (fun q h => Nat.le_trans hS.1 h) (fun v22 H locs hp22 hz9 hk9 hS => ?_)
        have hE9 := Ext.of hz9 hk9 (fun q h => h)
        have hL := hL.ext hE9
        have hed := hed.ext hE9
        subst hp22
        have hlb := hlb.ext hE9
        have l41 : ∀ (fuel : Nat) , 0 < fuel → (j ≤ xs.length) → (j = xs.length ∨ xs[j]? = some 44) → ∀ (H : Heap) (locs : List Loc) (ls : Array Slot) (k n : Nat), va_S (Pur H0) H0 H locs → Ob G H L 8 [.int (iI mz), .ref ed, .int (iI ↑rs.length)] → EDok G H ed rs cap → (LB G (PN G P H0) H L ed rs Z) → (k + 5 * (xs.length + 1 - j) ≤ mc) → (n + 2 * (xs.length - f) + 8 * (xs.length + 1 - j) + 4 * (10 + 2 * (xs.length + 2)) ≤ ms + 4 * cap) → lv_has ls 5 [(0, .ref a), (1, .ref L), (2, .int (iI ↑f)), (3, .int (iI ↑j))] → W p l e ⟨7, mc, ms, 191⟩ s m args below meth c H locs k n Q (F0 m 41 ls []) := by
          intro fuel
          induction fuel with
          | zero => intro  hf9; exact absurd hf9 (Nat.not_lt_zero _)
          | succ fuel ih_l41 =>
            intro  hf9 hjl hend H locs ls k n hS hL hed hlb hr1 hr2 hl
            have hstep : lst (xs.drop f) = on1 (trim (sl xs f j)) ++ lst (xs.drop (j + 1)) := by
              rcases hend with e | e
              · subst e; exact lst_end hno
              · exact lst_step e hj.1 hno
            have hslen : (sl xs f j).length = j - f := sl_len hjl
            have htl := trim_len (sl xs f j)
            have hgg := gr_or cap
            have hS1 := hS.1
            have hL1 := hL.lt
            have hd1 : G.2.heap.size ≤ ed → ed < H.size := fun hb => hed.edlt cx.kk.1 hb
            have hHs := hS.1
            have hno2 : ∀ c ∈ sl xs (j + 1) (j + 1), c ≠ 44 := fun c hc => by rw [sl_nil (Nat.le_refl _)] at hc; cases hc
            refine lv_aload_n hx hb dX1_cut_41 rfl (lv_at hl 0 rfl) ?_
            refine lv_iload_n hx hb dX1_cut_42 rfl (lv_at hl 2 rfl) ?_
            refine lv_iload_n hx hb dX1_cut_43 rfl (lv_at hl 3 rfl) ?_
            refine z_callV cx (j := 2) (m_J5_substring G l _ (fun q => P q ∧ q < H0.size) a f j xs (hB.ext (Ext.ofS hS)) (h1.ext (Ext.ofS hS)) ⟨hj.1, hjl⟩ (mc := 2) (ms := j - f + 4) (Nat.le_refl _) (Nat.le_refl _)) (lw_V q471 q472 q473 q40 q474) (zrecvS cx (hs.ext (Ext.ofS hS))) (by decide +kernel) rfl (rest := []) rfl hl (Nat.le_of_ble_eq_true rfl) (by decide) (by omega) dX1_cut_44 hS (fun q h => Nat.le_trans hS.1 h) (fun v44 H locs hp44 hz9 hk9 hS => ?_)
            have hE9 := Ext.of hz9 hk9 (fun q h => h)
            obtain ⟨u, rfl, hu9⟩ := hp44
            have hL := hL.ext hE9
            have hed := hed.ext hE9
            have hlb := hlb.ext hE9
            have hz44 := hz9
            refine z_callS cx (j := 1) (m_X1_trimmed G l _ _ u (sl xs f j) (hB.ext (Ext.ofS hS)) hu9 (mc := 2) (ms := j - f + 4) (Nat.le_refl _) (by omega)) (lw_S q495 q496 q32 q497) (by decide +kernel) rfl (rest := []) rfl hl (Nat.le_of_ble_eq_true rfl) (by decide) (by omega) dX1_cut_47 hS (fun q h => Nat.le_trans hS.1 h) (fun v47 H locs hp47 hz9 hk9 hS => ?_)
            have hE9 := Ext.of hz9 hk9 (fun q h => h)
            obtain ⟨w, rfl, hw9⟩ := hp47
            have hL := hL.ext hE9
            have hed := hed.ext hE9
            have hlb := hlb.ext hE9
            have hz47 := hz9
            have hw9 := hw9.kp (P' := PL G (PN G P H0) L ed) (Kp.weak (fun q _ hq => by
              rcases hq with (z | z | z) | z | z
              · exact ⟨Or.inl z.1, by omega, fun hb => by rcases hge with e | e; have := e0_lt cx.kk.1; omega; omega⟩
              · exact ⟨Or.inr (Or.inl (by omega)), by omega, fun hb => by have := hd1 hb; omega⟩
              · exact ⟨Or.inr (Or.inr z), by omega, fun hb => by omega⟩
              · exact ⟨Or.inr (Or.inl (by omega)), by omega, fun hb => by have := hd1 hb; omega⟩
              · exact ⟨Or.inr (Or.inr z), by omega, fun hb => by omega⟩))
            have hw8 := hw9
            obtain ⟨-, -, -, bw, -, hsw, -⟩ := hw8
            refine lv_astore (lv' := [(4, .ref w), (0, .ref a), (1, .ref L), (2, .int (iI ↑f)), (3, .int (iI ↑j))]) hx hb dX1_cut_50 hl (by decide) rfl (fun ls hl => ?_)
            refine lv_aload hx hb dX1_cut_52 (lv_at hl 0 rfl) ?_
            refine z_callV cx (j := 0) (m_J5_length G l _ _ w (trim (sl xs f j)) (hB.ext (Ext.ofS hS)) hw9 (mc := 0) (ms := 0)) (lw_V q156 q157 q158 q40 q159) (zrecvS cx hsw) (by decide +kernel) rfl (rest := []) rfl hl (Nat.le_of_ble_eq_true rfl) (by decide) (by omega) dX1_cut_54 hS (fun q h => Nat.le_trans hS.1 h) (fun v54 H locs hp54 hz9 hk9 hS => ?_)
            have hE9 := Ext.of hz9 hk9 (fun q h => h)
            have hL := hL.ext hE9
            have hed := hed.ext hE9
            have hsw := hsw.ext hE9
            subst hp54
            have hlb := hlb.ext hE9
            have hw9 := hw9.ext hE9
            refine z_if_le cx (tgt := 67) dX1_cut_57 (by decide) (by omega) (fun c57 => ?_) (fun c57 => ?_)
            · have e2 : trim (sl xs f j) = [] := List.eq_nil_of_length_eq_zero (by omega)
              have e3 : lst xs = Z ++ lst (xs.drop (j + 1)) := by rw [he, hstep, e2]; rfl
              refine lv_iload_n hx hb dX1_cut_67 rfl (lv_at hl 4 rfl) ?_
              refine lv_iconst (v := iI (1)) hx hb dX1_cut_68 rfl ?_
              refine z_iadd cx (z := ((j + 1 : Nat) : Int)) dX1_cut_69 (by omega) ?_
              refine lv_istore_n (lv' := [(2, .int (iI ((j + 1 : Nat) : Int))), (4, .ref w), (0, .ref a), (1, .ref L), (3, .int (iI ↑j))]) hx hb dX1_cut_70 rfl hl (by decide) rfl (fun ls hl => ?_)
              refine z_iinc cx (j := 4) (z := ((j + 1 : Nat) : Int)) (lv' := [(3, .int (iI ((j + 1 : Nat) : Int))), (2, .int (iI ((j + 1 : Nat) : Int))), (4, .ref w), (0, .ref a), (1, .ref L)]) dX1_cut_71 hl rfl (by omega) (by decide) rfl (fun ls hl => ?_)
              refine lv_goto (tgt := 12) hx hb dX1_cut_74 (by decide) ?_
              exact ih_lp (j + 1) (j + 1) ed cap mz rs Z (by omega) (by omega) e3 hno2 (fun _ => rfl) (by omega) hcp hge _ _ _ _ _ hS hL hed hlb (by omega) (by omega) (lv_sub hl [3, 4, 1, 0] rfl)
            · have e2 : trim (sl xs f j) ≠ [] := fun e => by rw [e, List.length_nil] at c57; omega
              have e3 : lst xs = (Z ++ [trim (sl xs f j)]) ++ lst (xs.drop (j + 1)) := by rw [he, hstep, on1, if_neg e2, List.append_assoc]
              have hHs := hS.1
              have hL2 := hL.lt
              have hle9 := hed.le
              have hif1 : (rs.length = cap ∧ (if rs.length = cap then gr cap else 0) = gr cap) ∨ (¬ rs.length = cap ∧ (if rs.length = cap then gr cap else 0) = 0) := by split <;> omega
              have hif2 : (rs.length = cap ∧ (if rs.length = cap then gr cap else cap) = gr cap) ∨ (¬ rs.length = cap ∧ (if rs.length = cap then gr cap else cap) = cap) := by split <;> omega
              refine lv_aload_n hx hb dX1_cut_60 rfl (lv_at hl 2 rfl) ?_
              refine lv_aload hx hb dX1_cut_61 (lv_at hl 0 rfl) ?_
              refine z_callV cx (j := 1) (m_J2_add G l _ L ed cap w mz rs (hB.ext (Ext.ofS hS)) (by omega) hL hed hlb.el (El.st hw9) (by omega) (mc := 1) (ms := if rs.length = cap then gr cap else 0) (by split <;> omega) (Nat.le_refl _)) (lw_V q498 q499 q500 q35 q501) (zrecv cx hL rfl) (by decide +kernel) rfl (rest := []) rfl hl (Nat.le_of_ble_eq_true rfl) (by decide) (by omega) dX1_cut_63 hS (fun q h => by rcases h with h | h | h; exact Nat.le_trans hS.1 h; exact h ▸ hgL; rcases hge with e | e; exact absurd h.1 (by rw [h.2, e]; exact Nat.not_le.mpr (e0_lt cx.kk.1)); exact h.2 ▸ e) (fun v63 H locs hp63 hz9 hk9 hS => ?_)
              obtain ⟨rfl, d, hd, hL, hed⟩ := hp63
              have hlb := hlb.add hL2 hw9 hk9 hd
              have e4 : rs.length + 1 = (rs ++ [w]).length := by rw [List.length_append, List.length_singleton]
              rw [e4] at hL
              refine lv_pop hx hb dX1_cut_66 rfl ?_
              refine lv_iload_n hx hb dX1_cut_67 rfl (lv_at hl 4 rfl) ?_
              refine lv_iconst (v := iI (1)) hx hb dX1_cut_68 rfl ?_
              refine z_iadd cx (z := ((j + 1 : Nat) : Int)) dX1_cut_69 (by omega) ?_
              refine lv_istore_n (lv' := [(2, .int (iI ((j + 1 : Nat) : Int))), (4, .ref w), (0, .ref a), (1, .ref L), (3, .int (iI ↑j))]) hx hb dX1_cut_70 rfl hl (by decide) rfl (fun ls hl => ?_)
              refine z_iinc cx (j := 4) (z := ((j + 1 : Nat) : Int)) (lv' := [(3, .int (iI ((j + 1 : Nat) : Int))), (2, .int (iI ((j + 1 : Nat) : Int))), (4, .ref w), (0, .ref a), (1, .ref L)]) dX1_cut_71 hl rfl (by omega) (by decide) rfl (fun ls hl => ?_)
              refine lv_goto (tgt := 12) hx hb dX1_cut_74 (by decide) ?_
              exact ih_lp (j + 1) (j + 1) d (if rs.length = cap then gr cap else cap) (mz + 1) (rs ++ [w]) (Z ++ [trim (sl xs f j)]) (by omega) (by omega) e3 hno2 (fun _ => rfl) (by rw [← e4]; omega) (by omega) (by rcases hd with e | e; rw [e.1]; exact hge; exact Or.inr (by omega)) _ _ _ _ _ hS hL hed hlb (by omega) (by omega) (lv_sub hl [3, 4, 1, 0] rfl)
        refine z_icmp_ge cx (tgt := 41) dX1_cut_25 (by decide) (by omega) (fun c25 => ?_) (fun c25 => ?_)
        · exact l41 _  (Nat.lt_succ_self _) (by omega) (Or.inl (by omega)) _ _ _ _ _ hS hL hed hlb (by omega) (by omega) (lv_sub hl [0, 1, 2, 3] rfl)
        · obtain ⟨c9, hc9⟩ := gcx (show j < xs.length by omega)
          have hcr := hch c9 (List.mem_of_getElem? hc9)
          refine lv_aload_n hx hb dX1_cut_28 rfl (lv_at hl 0 rfl) ?_
          refine lv_iload_n hx hb dX1_cut_29 rfl (lv_at hl 3 rfl) ?_
          refine z_callV cx (j := 1) (m_J5_charAt G l _ P a j xs c9 (hB.ext (Ext.ofS hS)) (h0.ext (Ext.ofS hS)) hc9 (mc := 0) (ms := 0)) (lw_V q165 q166 q167 q40 q168) (zrecvS cx (hs.ext (Ext.ofS hS))) (by decide +kernel) rfl (rest := []) rfl hl (Nat.le_of_ble_eq_true rfl) (by decide) (by omega) dX1_cut_30 hS (fun q h => Nat.le_trans hS.1 h) (fun v30 H locs hp30 hz9 hk9 hS => ?_)
          have hE9 := Ext.of hz9 hk9 (fun q h => h)
          have hL := hL.ext hE9
          have hed := hed.ext hE9
          subst hp30
          have hlb := hlb.ext hE9
          refine lv_bipush (v := iI (44)) hx hb dX1_cut_33 (by decide) ?_
          refine z_icmp_eq cx (tgt := 41) dX1_cut_35 (by decide) (by omega) (fun c35 => ?_) (fun c35 => ?_)
          · subst c35
            exact l41 _  (Nat.lt_succ_self _) (by omega) (Or.inr hc9) _ _ _ _ _ hS hL hed hlb (by omega) (by omega) (lv_sub hl [0, 1, 2, 3] rfl)
          · have hno3 : ∀ c ∈ sl xs f (j + 1), c ≠ 44 := fun c hc => by
              rw [sl_snoc hc9 hj.1] at hc
              rcases List.mem_append.mp hc with z | z
              · exact hno c z
              · rw [List.mem_singleton.mp z]; exact c35
            refine lv_goto (tgt := 71) hx hb dX1_cut_38 (by decide) ?_
            refine z_iinc cx (j := 3) (z := ((j + 1 : Nat) : Int)) (lv' := [(3, .int (iI ((j + 1 : Nat) : Int))), (0, .ref a), (1, .ref L), (2, .int (iI ↑f))]) dX1_cut_71 hl rfl (by omega) (by decide) rfl (fun ls hl => ?_)
            refine lv_goto (tgt := 12) hx hb dX1_cut_74 (by decide) ?_
            exact ih_lp f (j + 1) ed cap mz rs Z (by omega) (by omega) he hno3 (fun h => absurd h (by omega)) (by omega) hcp hge _ _ _ _ _ hS hL hed hlb (by omega) (by omega) (lv_sub hl [1, 2, 3, 0] rfl)
  exact lp _ 0 0 (e0 G) 0 0 [] [] (Nat.lt_succ_self _) (by omega) (by rw [List.drop_zero, List.nil_append]) (fun c hc => by rw [sl_nil (Nat.le_refl 0)] at hc; cases hc) (fun h => absurd h (by omega)) (by rw [List.length_nil]; omega) (by omega) (Or.inl rfl) _ _ _ _ _ hS hL hed9 hlb (by omega) (by omega) (lv_sub hl [3, 2, 1, 0] rfl)
