/-! ===== the model's rows ===== -/
set_option maxHeartbeats 4000000 in
set_option maxRecDepth 100000 in
theorem m_X4_trimmed (G : zE) (l : Launch) (H0 : Heap) (a : Nat) (xs : List Int) (f t : Nat) (ha : Ai G H0 a 101 xs) (hc : chs xs) (hf : f ≤ t ∧ t ≤ xs.length ∧ xs.length ≤ 100000) {mc ms : Nat} (hmc : 1 ≤ mc) (hms : (trim (sl xs f t)).length ≤ ms) : zR G l yX4_trimmed (ws_ yX4_trimmed cX4_trimmed 7 (some (FieldType.array FieldType.int))) 0 0 mc ms [.ref a, .int (iI ↑f), .int (iI ↑t)] H0 (fun r H1 => ∃ b : Nat, r = .ref b ∧ H0.size ≤ b ∧ Ai G H1 b 101 (trim (sl xs f t))) (Pur H0) := by
  refine zR.start (cc := cX4_trimmed) (by decide) (Nat.le_of_ble_eq_true rfl) ?_
  intro p e s m args below meth c Q cx hQ hmn ls hl
  have hx := cx.1
  have hb := cx.2.1
  have hS : va_S (Pur H0) H0 H0 [] := va_S.rf
  have hl : lv_has ls 7 [(0, .ref a), (1, .int (iI ↑f)), (2, .int (iI ↑t))] := hl
  have lp3 : ∀ (fuel : Nat) (u v r j : Nat), (v - j) < fuel → (u ≤ j ∧ j ≤ v ∧ v ≤ xs.length) → (trim (sl xs f t) = sl xs u v) → (H0.size ≤ r) → ∀ (H : Heap) (locs : List Loc) (ls : Array Slot) (k n : Nat), va_S (Pur H0) H0 H locs → Ai G H r 101 (sl xs u j ++ List.replicate (v - j) 0) → (k ≤ mc) → (n ≤ ms) → lv_has ls 7 [(0, .ref a), (1, .int (iI ↑f)), (2, .int (iI ↑t)), (3, .int (iI ↑u)), (4, .int (iI ↑v)), (5, .ref r), (6, .int (iI ↑j))] → W p l e ⟨0, mc, ms, 0⟩ s m args below meth c H locs k n Q (F0 m 59 ls []) := by
    intro fuel
    induction fuel with
    | zero => intro u v r j hf9; exact absurd hf9 (Nat.not_lt_zero _)
    | succ fuel ih_lp3 =>
      intro u v r j hf9 hj htr hrr H locs ls k n hS Ar hr1 hr2 hl
      have hLr : (sl xs u j ++ List.replicate (v - j) 0).length = v - u := by rw [List.length_append, sl_len (by omega), List.length_replicate]; omega
      refine lv_iload hx hb dX4_trimmed_59 (lv_at hl 6 rfl) ?_
      refine lv_iload hx hb dX4_trimmed_61 (lv_at hl 4 rfl) ?_
      refine z_icmp_ge cx (tgt := 83) dX4_trimmed_63 (by decide) (by omega) (fun c63 => ?_) (fun c63 => ?_)
      · have hjv : j = v := by omega
        subst hjv
        rw [Nat.sub_self, List.replicate_zero, List.append_nil] at Ar
        refine lv_aload hx hb dX4_trimmed_83 (lv_at hl 5 rfl) ?_
        exact z_aret cx hQ rfl (Or.inr ⟨_, rfl⟩) (⟨r, rfl, hrr, by rw [htr]; exact Ar⟩) hS (by omega) dX4_trimmed_85
      · refine lv_aload hx hb dX4_trimmed_66 (lv_at hl 5 rfl) ?_
        refine lv_iload hx hb dX4_trimmed_68 (lv_at hl 6 rfl) ?_
        refine lv_iload_n hx hb dX4_trimmed_70 rfl (lv_at hl 3 rfl) ?_
        refine z_isub cx (z := ((j - u : Nat) : Int)) dX4_trimmed_71 (by omega) ?_
        refine lv_aload_n hx hb dX4_trimmed_72 rfl (lv_at hl 0 rfl) ?_
        refine lv_iload hx hb dX4_trimmed_73 (lv_at hl 6 rfl) ?_
        refine z_iald cx (ha.ext (Ext.ofS hS)) (j) (by omega) dX4_trimmed_75 (fun x75 hx75 => ?_)
        have bx75 := hc _ (List.mem_of_getElem? hx75)
        refine z_iast cx Ar hrr hS (j - u) (by omega) dX4_trimmed_76 (fun H locs Ar hz9 hq9 hS => ?_)
        rw [fill_sl hx75 (by omega) (by omega)] at Ar
        refine z_iinc cx (j := 6) (z := ((j + 1 : Nat) : Int)) (lv' := [(6, .int (iI ((j + 1 : Nat) : Int))), (0, .ref a), (1, .int (iI ↑f)), (2, .int (iI ↑t)), (3, .int (iI ↑u)), (4, .int (iI ↑v)), (5, .ref r)]) dX4_trimmed_77 hl rfl (by omega) (by decide) rfl (fun ls hl => ?_)
        refine lv_goto (tgt := 59) hx hb dX4_trimmed_80 (by decide) ?_
        exact ih_lp3 u v r (j + 1) (by omega) (by omega) (by omega) (by omega) _ _ _ _ _ hS Ar (by omega) (by omega) (lv_sub hl [1, 2, 3, 4, 5, 6, 0] rfl)
  have lp2 : ∀ (fuel : Nat) (u v : Nat), (v - u) < fuel → (f ≤ u ∧ u ≤ v ∧ v ≤ t) → (trim (sl xs f t) = trim (sl xs u v)) → (u < v → ∀ c, xs[u]? = some c → c ≠ 32) → ∀ (H : Heap) (locs : List Loc) (ls : Array Slot) (k n : Nat), va_S (Pur H0) H0 H locs → (k ≤ 0) → (n ≤ 0) → lv_has ls 7 [(0, .ref a), (1, .int (iI ↑f)), (2, .int (iI ↑t)), (3, .int (iI ↑u)), (4, .int (iI ↑v))] → W p l e ⟨0, mc, ms, 0⟩ s m args below meth c H locs k n Q (F0 m 25 ls []) := by
    intro fuel
    induction fuel with
    | zero => intro u v hf9; exact absurd hf9 (Nat.not_lt_zero _)
    | succ fuel ih_lp2 =>
      intro u v hf9 hj htr h32 H locs ls k n hS  hr1 hr2 hl
      refine lv_iload hx hb dX4_trimmed_25 (lv_at hl 4 rfl) ?_
      refine lv_iload_n hx hb dX4_trimmed_27 rfl (lv_at hl 3 rfl) ?_
      refine z_icmp_le cx (tgt := 48) dX4_trimmed_28 (by decide) (by omega) (fun c28 => ?_) (fun c28 => ?_)
      · have e9 : sl xs u v = [] := sl_nil (by omega)
        rw [e9, trim_nil] at htr
        have e8 : trim (sl xs f t) = sl xs u v := by rw [htr, e9]
        refine lv_iload hx hb dX4_trimmed_48 (lv_at hl 4 rfl) ?_
        refine lv_iload_n hx hb dX4_trimmed_50 rfl (lv_at hl 3 rfl) ?_
        refine z_isub cx (z := ((v - u : Nat) : Int)) dX4_trimmed_51 (by omega) ?_
        refine z_newI cx hS q1152 (v - u) (by omega) (by omega) dX4_trimmed_52 (fun r H hr hgr Ar hz9 hE9 hS => ?_)
        refine lv_astore (lv' := [(5, .ref r), (0, .ref a), (1, .int (iI ↑f)), (2, .int (iI ↑t)), (3, .int (iI ↑u)), (4, .int (iI ↑v))]) hx hb dX4_trimmed_54 hl (by decide) rfl (fun ls hl => ?_)
        refine lv_iload_n hx hb dX4_trimmed_56 rfl (lv_at hl 4 rfl) ?_
        refine lv_istore (lv' := [(6, .int (iI ↑u)), (5, .ref r), (0, .ref a), (1, .int (iI ↑f)), (2, .int (iI ↑t)), (3, .int (iI ↑u)), (4, .int (iI ↑v))]) hx hb dX4_trimmed_57 hl (by decide) rfl (fun ls hl => ?_)
        exact lp3 _ u v r u (Nat.lt_succ_self _) (by omega) e8 (by omega) _ _ _ _ _ hS (by rw [sl_nil (Nat.le_refl u), List.nil_append]; exact Ar) (by omega) (by rw [e8, sl_len (by omega)] at hms; omega) (lv_sub hl [2, 3, 4, 5, 6, 1, 0] rfl)
      · refine lv_aload_n hx hb dX4_trimmed_31 rfl (lv_at hl 0 rfl) ?_
        refine lv_iload hx hb dX4_trimmed_32 (lv_at hl 4 rfl) ?_
        refine lv_iconst (v := iI (1)) hx hb dX4_trimmed_34 rfl ?_
        refine z_isub cx (z := ((v - 1 : Nat) : Int)) dX4_trimmed_35 (by omega) ?_
        refine z_iald cx (ha.ext (Ext.ofS hS)) (v - 1) (by omega) dX4_trimmed_36 (fun x36 hx36 => ?_)
        have bx36 := hc _ (List.mem_of_getElem? hx36)
        refine lv_bipush (v := iI (32)) hx hb dX4_trimmed_37 (by decide) ?_
        refine z_icmp_ne cx (tgt := 48) dX4_trimmed_39 (by decide) (by omega) (fun c39 => ?_) (fun c39 => ?_)
        · have e8 : trim (sl xs f t) = sl xs u v := by
            rw [htr]
            refine trim_id (fun c h => h32 (by omega) c (sl_head h)) (fun c h => ?_)
            have h7 := sl_last (by omega) h
            rw [h7] at hx36
            cases hx36
            exact c39
          have e6 : v - u ≤ ms := by rw [e8, sl_len (by omega)] at hms; omega
          refine lv_iload hx hb dX4_trimmed_48 (lv_at hl 4 rfl) ?_
          refine lv_iload_n hx hb dX4_trimmed_50 rfl (lv_at hl 3 rfl) ?_
          refine z_isub cx (z := ((v - u : Nat) : Int)) dX4_trimmed_51 (by omega) ?_
          refine z_newI cx hS q1152 (v - u) (by omega) (by omega) dX4_trimmed_52 (fun r H hr hgr Ar hz9 hE9 hS => ?_)
          refine lv_astore (lv' := [(5, .ref r), (0, .ref a), (1, .int (iI ↑f)), (2, .int (iI ↑t)), (3, .int (iI ↑u)), (4, .int (iI ↑v))]) hx hb dX4_trimmed_54 hl (by decide) rfl (fun ls hl => ?_)
          refine lv_iload_n hx hb dX4_trimmed_56 rfl (lv_at hl 4 rfl) ?_
          refine lv_istore (lv' := [(6, .int (iI ↑u)), (5, .ref r), (0, .ref a), (1, .int (iI ↑f)), (2, .int (iI ↑t)), (3, .int (iI ↑u)), (4, .int (iI ↑v))]) hx hb dX4_trimmed_57 hl (by decide) rfl (fun ls hl => ?_)
          exact lp3 _ u v r u (Nat.lt_succ_self _) (by omega) e8 (by omega) _ _ _ _ _ hS (by rw [sl_nil (Nat.le_refl u), List.nil_append]; exact Ar) (by omega) (by rw [e8, sl_len (by omega)] at hms; omega) (lv_sub hl [2, 3, 4, 5, 6, 1, 0] rfl)
        · refine z_iinc cx (j := 4) (z := ((v - 1 : Nat) : Int)) (lv' := [(4, .int (iI ((v - 1 : Nat) : Int))), (0, .ref a), (1, .int (iI ↑f)), (2, .int (iI ↑t)), (3, .int (iI ↑u))]) dX4_trimmed_42 hl rfl (by omega) (by decide) rfl (fun ls hl => ?_)
          refine lv_goto (tgt := 25) hx hb dX4_trimmed_45 (by decide) ?_
          subst c39
          have e7 : sl xs u v = sl xs u (v - 1) ++ [32] := by
            have h7 := sl_snoc (xs := xs) (f := u) (t := v - 1) hx36 (by omega)
            rwa [Nat.sub_add_cancel (by omega)] at h7
          exact ih_lp2 u (v - 1) (by omega) (by omega) (by rw [htr, e7, trim_e]) (fun h9 => h32 (by omega)) _ _ _ _ _ hS  (by omega) (by omega) (lv_sub hl [1, 2, 3, 4, 0] rfl)
  refine lv_iload_n hx hb dX4_trimmed_0 rfl (lv_at hl 1 rfl) ?_
  refine lv_istore_n (lv' := [(3, .int (iI ↑f)), (0, .ref a), (1, .int (iI ↑f)), (2, .int (iI ↑t))]) hx hb dX4_trimmed_1 rfl hl (by decide) rfl (fun ls hl => ?_)
  refine lv_iload_n hx hb dX4_trimmed_2 rfl (lv_at hl 3 rfl) ?_
  refine lv_istore (lv' := [(4, .int (iI ↑t)), (3, .int (iI ↑f)), (0, .ref a), (1, .int (iI ↑f)), (2, .int (iI ↑t))]) hx hb dX4_trimmed_3 hl (by decide) rfl (fun ls hl => ?_)
  have lp1 : ∀ (fuel : Nat) (u : Nat), (t - u) < fuel → (f ≤ u ∧ u ≤ t) → (trim (sl xs f t) = trim (sl xs u t)) → ∀ (H : Heap) (locs : List Loc) (ls : Array Slot) (k n : Nat), va_S (Pur H0) H0 H locs → (k ≤ 0) → (n ≤ 0) → lv_has ls 7 [(0, .ref a), (1, .int (iI ↑f)), (2, .int (iI ↑t)), (3, .int (iI ↑u)), (4, .int (iI ↑t))] → W p l e ⟨0, mc, ms, 0⟩ s m args below meth c H locs k n Q (F0 m 5 ls []) := by
    intro fuel
    induction fuel with
    | zero => intro u hf9; exact absurd hf9 (Nat.not_lt_zero _)
    | succ fuel ih_lp1 =>
      intro u hf9 hj htr H locs ls k n hS  hr1 hr2 hl
      refine lv_iload_n hx hb dX4_trimmed_5 rfl (lv_at hl 3 rfl) ?_
      refine lv_iload hx hb dX4_trimmed_6 (lv_at hl 4 rfl) ?_
      refine z_icmp_ge cx (tgt := 25) dX4_trimmed_8 (by decide) (by omega) (fun c8 => ?_) (fun c8 => ?_)
      · exact lp2 _ u t (Nat.lt_succ_self _) (by omega) htr (fun h9 => by omega) _ _ _ _ _ hS  (by omega) (by omega) (lv_sub hl [0, 1, 2, 3, 4] rfl)
      · refine lv_aload_n hx hb dX4_trimmed_11 rfl (lv_at hl 0 rfl) ?_
        refine lv_iload_n hx hb dX4_trimmed_12 rfl (lv_at hl 3 rfl) ?_
        refine z_iald cx (ha.ext (Ext.ofS hS)) (u) (by omega) dX4_trimmed_13 (fun x13 hx13 => ?_)
        have bx13 := hc _ (List.mem_of_getElem? hx13)
        refine lv_bipush (v := iI (32)) hx hb dX4_trimmed_14 (by decide) ?_
        refine z_icmp_ne cx (tgt := 25) dX4_trimmed_16 (by decide) (by omega) (fun c16 => ?_) (fun c16 => ?_)
        · exact lp2 _ u t (Nat.lt_succ_self _) (by omega) htr (fun h9 c hc9 => by rw [hc9] at hx13; cases hx13; exact c16) _ _ _ _ _ hS  (by omega) (by omega) (lv_sub hl [0, 1, 2, 3, 4] rfl)
        · refine z_iinc cx (j := 3) (z := ((u + 1 : Nat) : Int)) (lv' := [(3, .int (iI ((u + 1 : Nat) : Int))), (0, .ref a), (1, .int (iI ↑f)), (2, .int (iI ↑t)), (4, .int (iI ↑t))]) dX4_trimmed_19 hl rfl (by omega) (by decide) rfl (fun ls hl => ?_)
          refine lv_goto (tgt := 5) hx hb dX4_trimmed_22 (by decide) ?_
          subst c16
          exact ih_lp1 (u + 1) (by omega) (by omega) (by rw [htr, sl_cons hx13 (by omega), trim_b]) _ _ _ _ _ hS  (by omega) (by omega) (lv_sub hl [1, 2, 3, 0, 4] rfl)
  exact lp1 _ f (Nat.lt_succ_self _) (by omega) rfl _ _ _ _ _ hS  (by omega) (by omega) (lv_sub hl [2, 3, 4, 1, 0] rfl)
