/-! ===== the model: a name's value in a text ===== -/
set_option maxHeartbeats 4000000 in
set_option maxRecDepth 100000 in
theorem m_X4_valueOf (G : zE) (l : Launch) (H0 : Heap) (P : Nat → Prop) (a b : Nat) (cs : List Int) (lz : Lns) (nm : List Int) (ha : Tx G P H0 a cs lz) (hb9 : Ai G H0 b 101 nm) (hnm : chs nm ∧ nm.length ≤ 100000) {mc ms : Nat} (hmc : vC nm none (tln cs lz) ≤ mc) (hms : vS nm none (tln cs lz) ≤ ms) : zR G l yX4_valueOf (ws_ yX4_valueOf cX4_valueOf 7 (some (FieldType.array FieldType.int))) 1 26 mc ms [.ref a, .ref b] H0 (fun r H1 => ∃ r0 : Option Nat, r = va_rf r0 ∧ Orw G (Pur H0) H1 r0 (vof (tln cs lz) nm)) (Pur H0) := by
  refine zR.start (cc := cX4_valueOf) (by decide) (Nat.le_of_ble_eq_true rfl) ?_
  intro p e s m args below meth c Q cx hQ hmn ls hl
  have hx := cx.1
  have hb := cx.2.1
  have hS : va_S (Pur H0) H0 H0 [] := va_S.rf
  have hl : lv_has ls 7 [(0, .ref a), (1, .ref b)] := hl
  obtain ⟨-, ca, ba, ka, ea, bs, ks, es, hOb, -, hcs, hbs, hks, hes, hl9, hch, hcl, hln⟩ := ha
  refine lv_null hx hb dX4_valueOf_0 ?_
  refine lv_astore_nN (lv' := [(2, .null), (0, .ref a), (1, .ref b)]) hx hb dX4_valueOf_1 rfl hl (by decide) rfl (fun ls hl => ?_)
  refine lv_iconst (v := iI (0)) hx hb dX4_valueOf_2 rfl ?_
  refine lv_istore_n (lv' := [(3, .int (iI 0)), (2, .null), (0, .ref a), (1, .ref b)]) hx hb dX4_valueOf_3 rfl hl (by decide) rfl (fun ls hl => ?_)
  have lp : ∀ (fuel : Nat) (j : Nat) (acc : Option (List Int)) (r0 : Option Nat), (lz.length - j) < fuel → (j ≤ lz.length) → (vof (tln cs lz) nm = vV nm acc ((tln cs lz).drop j)) → (ochs acc ∧ olen acc (j * 301)) → ∀ (H : Heap) (locs : List Loc) (ls : Array Slot) (k n : Nat), va_S (Pur H0) H0 H locs → (Orw G (Pur H0) H r0 acc) → (k + vC nm acc ((tln cs lz).drop j) ≤ mc) → (n + vS nm acc ((tln cs lz).drop j) ≤ ms) → lv_has ls 7 [(0, .ref a), (1, .ref b), (2, va_rf r0), (3, .int (iI ↑j))] → W p l e ⟨1, mc, ms, 26⟩ s m args below meth c H locs k n Q (F0 m 4 ls []) := by
    intro fuel
    induction fuel with
    | zero => intro j acc r0 hf9; exact absurd hf9 (Nat.not_lt_zero _)
    | succ fuel ih_lp =>
      intro j acc r0 hf9 hj hv hac H locs ls k n hS hR hr1 hr2 hl
      refine lv_iload_n hx hb dX4_valueOf_4 rfl (lv_at hl 3 rfl) ?_
      refine lv_aload_n hx hb dX4_valueOf_5 rfl (lv_at hl 0 rfl) ?_
      refine z_get cx (k0 := 1) (hOb.ext (Ext.ofS hS)) rfl in_X5 (by decide) q1134 rfl rfl dX4_valueOf_6 ?_
      refine z_icmp_ge cx (tgt := 143) dX4_valueOf_9 (by decide) (by omega) (fun c9 => ?_) (fun c9 => ?_)
      · rw [List.drop_eq_nil_of_le (by rw [tln_len]; omega)] at hv
        rcases r0 with _ | r0
        · refine lv_aload_nN hx hb dX4_valueOf_143 rfl (lv_at hl 2 rfl) ?_
          exact z_nret cx hQ rfl (Or.inr ⟨_, rfl⟩) (⟨none, rfl, by rw [hv]; exact hR⟩) hS (by omega) dX4_valueOf_144
        · refine lv_aload_n hx hb dX4_valueOf_143 rfl (lv_at hl 2 rfl) ?_
          exact z_aret cx hQ rfl (Or.inr ⟨_, rfl⟩) (⟨some r0, rfl, by rw [hv]; exact hR⟩) hS (by omega) dX4_valueOf_144
      · obtain ⟨⟨b0, k0, e0⟩, hq⟩ : ∃ q, lz[j]? = some q := ⟨_, List.getElem?_eq_getElem (by omega)⟩
        obtain ⟨g1, g2, g3, g4, g5, g6⟩ := hln j _ hq
        dsimp only at g1 g2 g3 g4 g5 g6
        have hdr := tln_drop (cs := cs) hq
        have hwl : (nmOf cs (b0, k0, e0)).length = k0 - b0 := nmOf_len (by omega)
        rw [hdr] at hv hr1 hr2
        have l93 : ∀ (fuel : Nat) (f : Int), 0 < fuel → (f = b2i (decide (nmOf cs (b0, k0, e0) = nm))) → ∀ (H : Heap) (locs : List Loc) (ls : Array Slot) (k n : Nat), va_S (Pur H0) H0 H locs → (Orw G (Pur H0) H r0 acc) → (k + vC nm acc ((nmOf cs (b0, k0, e0), vlOf cs (b0, k0, e0)) :: (tln cs lz).drop (j + 1)) ≤ mc) → (n + vS nm acc ((nmOf cs (b0, k0, e0), vlOf cs (b0, k0, e0)) :: (tln cs lz).drop (j + 1)) ≤ ms) → lv_has ls 7 [(0, .ref a), (1, .ref b), (2, va_rf r0), (3, .int (iI ↑j)), (5, .int (iI f))] → W p l e ⟨1, mc, ms, 26⟩ s m args below meth c H locs k n Q (F0 m 93 ls []) := by
          intro fuel
          induction fuel with
          | zero => intro f hf9; exact absurd hf9 (Nat.not_lt_zero _)
          | succ fuel ih_l93 =>
            intro f hf9 hf H locs ls k n hS hR hr1 hr2 hl
            have hfr := b2i_rg (decide (nmOf cs (b0, k0, e0) = nm))
            refine lv_iload hx hb dX4_valueOf_93 (lv_at hl 4 rfl) ?_
            refine z_if_eq cx (tgt := 137) dX4_valueOf_95 (by decide) (by omega) (fun c95 => ?_) (fun c95 => ?_)
            · rw [hf] at c95
              have hne := b2i_F c95
              rw [vV, if_neg hne] at hv
              rw [vC, if_neg hne] at hr1
              rw [vS, if_neg hne] at hr2
              rcases r0 with _ | r0
              · refine z_iinc cx (j := 3) (z := ((j + 1 : Nat) : Int)) (lv' := [(3, .int (iI ((j + 1 : Nat) : Int))), (0, .ref a), (1, .ref b), (2, .null), (5, .int (iI f))]) dX4_valueOf_137 hl rfl (by omega) (by decide) rfl (fun ls hl => ?_)
                refine lv_goto (tgt := 4) hx hb dX4_valueOf_140 (by decide) ?_
                exact ih_lp (j + 1) acc none (by omega) (by omega) hv ⟨hac.1, fun x hx => by have := hac.2 x hx; omega⟩ _ _ _ _ _ hS hR (by omega) (by omega) (lv_sub hl [1, 2, 3, 0] rfl)
              · refine z_iinc cx (j := 3) (z := ((j + 1 : Nat) : Int)) (lv' := [(3, .int (iI ((j + 1 : Nat) : Int))), (0, .ref a), (1, .ref b), (2, .ref r0), (5, .int (iI f))]) dX4_valueOf_137 hl rfl (by omega) (by decide) rfl (fun ls hl => ?_)
                refine lv_goto (tgt := 4) hx hb dX4_valueOf_140 (by decide) ?_
                exact ih_lp (j + 1) acc (some r0) (by omega) (by omega) hv ⟨hac.1, fun x hx => by have := hac.2 x hx; omega⟩ _ _ _ _ _ hS hR (by omega) (by omega) (lv_sub hl [1, 2, 3, 0] rfl)
            · rw [hf] at c95
              have heq := b2i_T c95
              rw [vV, if_pos heq] at hv
              rw [vC, if_pos heq] at hr1
              rw [vS, if_pos heq] at hr2
              dsimp only at hv hr1 hr2
              have hvl : vlOf cs (b0, k0, e0) = trim (sl cs (k0 + 1) e0) := rfl
              have hs1 : (vlOf cs (b0, k0, e0)).length ≤ s1 acc (vlOf cs (b0, k0, e0)) := by cases acc <;> simp [s1]
              have hc1 : 1 ≤ c1 acc := by cases acc <;> simp [c1]
              have hvn : (vlOf cs (b0, k0, e0)).length ≤ 300 := Nat.le_trans vlOf_len hcl
              have hs9 := hS.1
              refine lv_aload_n hx hb dX4_valueOf_98 rfl (lv_at hl 0 rfl) ?_
              refine z_get cx (k0 := 0) (hOb.ext (Ext.ofS hS)) rfl in_X5 (by decide) q1133 rfl rfl dX4_valueOf_99 ?_
              refine lv_aload_n hx hb dX4_valueOf_102 rfl (lv_at hl 0 rfl) ?_
              refine z_get cx (k0 := 3) (hOb.ext (Ext.ofS hS)) rfl in_X5 (by decide) q1138 rfl rfl dX4_valueOf_103 ?_
              refine lv_iload_n hx hb dX4_valueOf_106 rfl (lv_at hl 3 rfl) ?_
              refine z_iald cx (hks.ext (Ext.ofS hS)) (j) (by omega) dX4_valueOf_107 (fun x107 hx107 => ?_)
              obtain rfl := zsub hx107 g2
              refine lv_iconst (v := iI (1)) hx hb dX4_valueOf_108 rfl ?_
              refine z_iadd cx (z := ((k0 + 1 : Nat) : Int)) dX4_valueOf_109 (by omega) ?_
              refine lv_aload_n hx hb dX4_valueOf_110 rfl (lv_at hl 0 rfl) ?_
              refine z_get cx (k0 := 4) (hOb.ext (Ext.ofS hS)) rfl in_X5 (by decide) q1140 rfl rfl dX4_valueOf_111 ?_
              refine lv_iload_n hx hb dX4_valueOf_114 rfl (lv_at hl 3 rfl) ?_
              refine z_iald cx (hes.ext (Ext.ofS hS)) (j) (by omega) dX4_valueOf_115 (fun x115 hx115 => ?_)
              obtain rfl := zsub hx115 g3
              refine z_callS cx (j := 3) (m_X4_trimmed G l _ ca cs (k0 + 1) e0 (hcs.ext (Ext.ofS hS)) hch (by omega) (mc := 1) (ms := (vlOf cs (b0, k0, e0)).length) (Nat.le_refl _) (Nat.le_refl _)) (lw_S q1226 q1227 q57 q1228) (by decide +kernel) rfl (rest := []) rfl hl (Nat.le_of_ble_eq_true rfl) (by decide) (by omega) dX4_valueOf_116 hS (fun q h => Nat.le_trans hS.1 h) (fun v116 H locs hp116 hz9 hk9 hS => ?_)
              have hE9 := Ext.of hz9 hk9 (fun q h => h)
              obtain ⟨w, rfl, hgw, Aw⟩ := hp116
              have hR := hR.kp (Kp.ext hE9)
              have hcw : chs (trim (sl cs (k0 + 1) e0)) := chs_trim (chs_sl hch _ _)
              rw [← hvl] at Aw hcw
              refine lv_astore (lv' := [(6, .ref w), (0, .ref a), (1, .ref b), (2, va_rf r0), (3, .int (iI ↑j)), (5, .int (iI f))]) hx hb dX4_valueOf_119 hl (by decide) rfl (fun ls hl => ?_)
              rcases r0 with _ | r0
              · cases acc with
                | some x => exact hR.elim
                | none =>
                  refine lv_aload_nN hx hb dX4_valueOf_121 rfl (lv_at hl 3 rfl) ?_
                  refine lv_ifnonnullN hx hb dX4_valueOf_122 ?_
                  refine lv_aload hx hb dX4_valueOf_125 (lv_at hl 0 rfl) ?_
                  refine lv_goto (tgt := 136) hx hb dX4_valueOf_127 (by decide) ?_
                  refine lv_astore_n (lv' := [(2, .ref w), (6, .ref w), (0, .ref a), (1, .ref b), (3, .int (iI ↑j)), (5, .int (iI f))]) hx hb dX4_valueOf_136 rfl hl (by decide) rfl (fun ls hl => ?_)
                  refine z_iinc cx (j := 4) (z := ((j + 1 : Nat) : Int)) (lv' := [(3, .int (iI ((j + 1 : Nat) : Int))), (2, .ref w), (6, .ref w), (0, .ref a), (1, .ref b), (5, .int (iI f))]) dX4_valueOf_137 hl rfl (by omega) (by decide) rfl (fun ls hl => ?_)
                  refine lv_goto (tgt := 4) hx hb dX4_valueOf_140 (by decide) ?_
                  exact ih_lp (j + 1) (some (jn none (vlOf cs (b0, k0, e0)))) (some w) (by omega) (by omega) hv ⟨fun x hx => by cases hx; exact hcw, fun x hx => by cases hx; show (vlOf cs (b0, k0, e0)).length ≤ _; omega⟩ _ _ _ _ _ hS (show Orw G (Pur H0) _ (some w) _ from ⟨(by show H0.size ≤ w; omega), Aw⟩) (by simp only [c1] at hr1; omega) (by simp only [s1] at hr2; omega) (lv_sub hl [3, 4, 1, 0] rfl)
              · cases acc with
                | none => exact hR.elim
                | some x =>
                  have hx1 := hac.1 x rfl
                  have hx2 := hac.2 x rfl
                  have hs8 := hS.1
                  simp only [c1, s1] at hr1 hr2
                  refine lv_aload_n hx hb dX4_valueOf_121 rfl (lv_at hl 3 rfl) ?_
                  refine lv_ifnonnull (tgt := 130) hx hb dX4_valueOf_122 (by decide) ?_
                  refine lv_aload_n hx hb dX4_valueOf_130 rfl (lv_at hl 3 rfl) ?_
                  refine lv_aload hx hb dX4_valueOf_131 (lv_at hl 0 rfl) ?_
                  refine z_callS cx (j := 2) (m_X4_joined G l _ r0 w x (vlOf cs (b0, k0, e0)) hR.2 Aw hx1 hcw ⟨by omega, by omega⟩ (mc := 1) (ms := x.length + 1 + (vlOf cs (b0, k0, e0)).length) (Nat.le_refl _) (Nat.le_refl _)) (lw_S q1229 q1230 q57 q1231) (by decide +kernel) rfl (rest := []) rfl hl (Nat.le_of_ble_eq_true rfl) (by decide) (by omega) dX4_valueOf_133 hS (fun q h => Nat.le_trans hS.1 h) (fun v133 H locs hp133 hz9 hk9 hS => ?_)
                  have hE9 := Ext.of hz9 hk9 (fun q h => h)
                  obtain ⟨y, rfl, hgy, Ay⟩ := hp133
                  have Aw := Aw.ext hE9
                  refine lv_astore_n (lv' := [(2, .ref y), (6, .ref w), (0, .ref a), (1, .ref b), (3, .int (iI ↑j)), (5, .int (iI f))]) hx hb dX4_valueOf_136 rfl hl (by decide) rfl (fun ls hl => ?_)
                  refine z_iinc cx (j := 4) (z := ((j + 1 : Nat) : Int)) (lv' := [(3, .int (iI ((j + 1 : Nat) : Int))), (2, .ref y), (6, .ref w), (0, .ref a), (1, .ref b), (5, .int (iI f))]) dX4_valueOf_137 hl rfl (by omega) (by decide) rfl (fun ls hl => ?_)
                  refine lv_goto (tgt := 4) hx hb dX4_valueOf_140 (by decide) ?_
                  exact ih_lp (j + 1) (some (jn (some x) (vlOf cs (b0, k0, e0)))) (some y) (by omega) (by omega) hv ⟨fun z hz => by cases hz; exact chs_app hx1 (fun c hc => by rcases List.mem_cons.mp hc with q | q; rw [q]; exact ⟨by decide, by decide⟩; exact hcw c q), fun z hz => by cases hz; show (x ++ 44 :: vlOf cs (b0, k0, e0)).length ≤ _; rw [List.length_append, List.length_cons]; omega⟩ _ _ _ _ _ hS (show Orw G (Pur H0) _ (some y) _ from ⟨(by show H0.size ≤ y; omega), Ay⟩) (by omega) (by omega) (lv_sub hl [3, 4, 1, 0] rfl)
        have li : ∀ (fuel : Nat) (i : Nat) (f : Int), (k0 - b0 - i) < fuel → (i ≤ k0 - b0) → (f = b2i (decide ((nmOf cs (b0, k0, e0)).length = nm.length ∧ (nmOf cs (b0, k0, e0)).take i = nm.take i))) → ∀ (H : Heap) (locs : List Loc) (ls : Array Slot) (k n : Nat), va_S (Pur H0) H0 H locs → (Orw G (Pur H0) H r0 acc) → (k + vC nm acc ((nmOf cs (b0, k0, e0), vlOf cs (b0, k0, e0)) :: (tln cs lz).drop (j + 1)) ≤ mc) → (n + vS nm acc ((nmOf cs (b0, k0, e0), vlOf cs (b0, k0, e0)) :: (tln cs lz).drop (j + 1)) ≤ ms) → lv_has ls 7 [(0, .ref a), (1, .ref b), (2, va_rf r0), (3, .int (iI ↑j)), (4, .int (iI ((k0 - b0 : Nat) : Int))), (5, .int (iI f)), (6, .int (iI ↑i))] → W p l e ⟨1, mc, ms, 26⟩ s m args below meth c H locs k n Q (F0 m 44 ls []) := by
          intro fuel
          induction fuel with
          | zero => intro i f hf9; exact absurd hf9 (Nat.not_lt_zero _)
          | succ fuel ih_li =>
            intro i f hf9 hi hf H locs ls k n hS hR hr1 hr2 hl
            have hfr := b2i_rg (decide ((nmOf cs (b0, k0, e0)).length = nm.length ∧ (nmOf cs (b0, k0, e0)).take i = nm.take i))
            refine lv_iload hx hb dX4_valueOf_44 (lv_at hl 6 rfl) ?_
            refine lv_iload hx hb dX4_valueOf_46 (lv_at hl 4 rfl) ?_
            refine z_icmp_ge cx (tgt := 93) dX4_valueOf_48 (by decide) (by omega) (fun c48 => ?_) (fun c48 => ?_)
            · exact l93 _ f (Nat.lt_succ_self _) (by rw [hf]; exact b2i_dec ⟨fun h => by have h2 := h.2; rw [List.take_of_length_le (by omega), List.take_of_length_le (by omega)] at h2; exact h2, fun h => ⟨by rw [h], by rw [h]⟩⟩) _ _ _ _ _ hS hR (by omega) (by omega) (lv_sub hl [0, 1, 2, 3, 5] rfl)
            · refine lv_iload hx hb dX4_valueOf_51 (lv_at hl 5 rfl) ?_
              refine z_if_eq cx (tgt := 93) dX4_valueOf_53 (by decide) (by omega) (fun c53 => ?_) (fun c53 => ?_)
              · rw [hf] at c53
                have hno := b2i_F c53
                exact l93 _ f (Nat.lt_succ_self _) (by rw [hf, c53]; exact b2i_q (fun h => hno ⟨by rw [h], by rw [h]⟩)) _ _ _ _ _ hS hR (by omega) (by omega) (lv_sub hl [0, 1, 2, 3, 5] rfl)
              · rw [hf] at c53
                have hyes := b2i_T c53
                refine lv_aload_n hx hb dX4_valueOf_56 rfl (lv_at hl 0 rfl) ?_
                refine z_get cx (k0 := 0) (hOb.ext (Ext.ofS hS)) rfl in_X5 (by decide) q1133 rfl rfl dX4_valueOf_57 ?_
                refine lv_aload_n hx hb dX4_valueOf_60 rfl (lv_at hl 0 rfl) ?_
                refine z_get cx (k0 := 2) (hOb.ext (Ext.ofS hS)) rfl in_X5 (by decide) q1136 rfl rfl dX4_valueOf_61 ?_
                refine lv_iload_n hx hb dX4_valueOf_64 rfl (lv_at hl 3 rfl) ?_
                refine z_iald cx (hbs.ext (Ext.ofS hS)) (j) (by omega) dX4_valueOf_65 (fun x65 hx65 => ?_)
                obtain rfl := zsub hx65 g1
                refine lv_iload hx hb dX4_valueOf_66 (lv_at hl 6 rfl) ?_
                refine z_iadd cx (z := ((b0 + i : Nat) : Int)) dX4_valueOf_68 (by omega) ?_
                refine z_iald cx (hcs.ext (Ext.ofS hS)) (b0 + i) (by omega) dX4_valueOf_69 (fun x69 hx69 => ?_)
                have bx69 := hch _ (List.mem_of_getElem? hx69)
                refine z_callS cx (j := 1) (m_X4_small G l _ x69 (by omega) (mc := 0) (ms := 0)) (lw_S q1223 q1224 q57 q1225) (by decide +kernel) rfl (rest := []) rfl hl (Nat.le_of_ble_eq_true rfl) (by decide) (by omega) dX4_valueOf_70 hS (fun q h => Nat.le_trans hS.1 h) (fun v70 H locs hp70 hz9 hk9 hS => ?_)
                have hE9 := Ext.of hz9 hk9 (fun q h => h)
                subst hp70
                have hR := hR.kp (Kp.ext hE9)
                have hsm := smI_rg bx69
                have hgn := nmOf_get (e := e0) hx69 (by omega : b0 + i < k0)
                refine lv_aload_n hx hb dX4_valueOf_73 rfl (lv_at hl 1 rfl) ?_
                refine lv_iload hx hb dX4_valueOf_74 (lv_at hl 6 rfl) ?_
                refine z_iald cx (hb9.ext (Ext.ofS hS)) (i) (by omega) dX4_valueOf_76 (fun x76 hx76 => ?_)
                have bx76 := hnm.1 _ (List.mem_of_getElem? hx76)
                refine z_icmp_ne cx (tgt := 84) dX4_valueOf_77 (by decide) (by omega) (fun c77 => ?_) (fun c77 => ?_)
                · have hte := take_eq hgn hx76
                  refine lv_iconst (v := iI (0)) hx hb dX4_valueOf_84 rfl ?_
                  refine lv_istore (lv' := [(5, .int (iI 0)), (0, .ref a), (1, .ref b), (2, va_rf r0), (3, .int (iI ↑j)), (4, .int (iI ((k0 - b0 : Nat) : Int))), (6, .int (iI ↑i))]) hx hb dX4_valueOf_85 hl (by decide) rfl (fun ls hl => ?_)
                  refine z_iinc cx (j := 6) (z := ((i + 1 : Nat) : Int)) (lv' := [(6, .int (iI ((i + 1 : Nat) : Int))), (5, .int (iI 0)), (0, .ref a), (1, .ref b), (2, va_rf r0), (3, .int (iI ↑j)), (4, .int (iI ((k0 - b0 : Nat) : Int)))]) dX4_valueOf_87 hl rfl (by omega) (by decide) rfl (fun ls hl => ?_)
                  refine lv_goto (tgt := 44) hx hb dX4_valueOf_90 (by decide) ?_
                  exact ih_li (i + 1) 0 (by omega) (by omega) (b2i_q (fun h => c77 (hte.mp h.2).2)) _ _ _ _ _ hS hR (by omega) (by omega) (lv_sub hl [2, 3, 4, 5, 6, 1, 0] rfl)
                · have hte := take_eq hgn hx76
                  refine lv_iconst (v := iI (1)) hx hb dX4_valueOf_80 rfl ?_
                  refine lv_goto (tgt := 85) hx hb dX4_valueOf_81 (by decide) ?_
                  refine lv_istore (lv' := [(5, .int (iI 1)), (0, .ref a), (1, .ref b), (2, va_rf r0), (3, .int (iI ↑j)), (4, .int (iI ((k0 - b0 : Nat) : Int))), (6, .int (iI ↑i))]) hx hb dX4_valueOf_85 hl (by decide) rfl (fun ls hl => ?_)
                  refine z_iinc cx (j := 6) (z := ((i + 1 : Nat) : Int)) (lv' := [(6, .int (iI ((i + 1 : Nat) : Int))), (5, .int (iI 1)), (0, .ref a), (1, .ref b), (2, va_rf r0), (3, .int (iI ↑j)), (4, .int (iI ((k0 - b0 : Nat) : Int)))]) dX4_valueOf_87 hl rfl (by omega) (by decide) rfl (fun ls hl => ?_)
                  refine lv_goto (tgt := 44) hx hb dX4_valueOf_90 (by decide) ?_
                  exact ih_li (i + 1) 1 (by omega) (by omega) (b2i_p ⟨hyes.1, hte.mpr ⟨hyes.2, c77⟩⟩) _ _ _ _ _ hS hR (by omega) (by omega) (lv_sub hl [2, 3, 4, 5, 6, 1, 0] rfl)
        refine lv_aload_n hx hb dX4_valueOf_12 rfl (lv_at hl 0 rfl) ?_
        refine z_get cx (k0 := 3) (hOb.ext (Ext.ofS hS)) rfl in_X5 (by decide) q1138 rfl rfl dX4_valueOf_13 ?_
        refine lv_iload_n hx hb dX4_valueOf_16 rfl (lv_at hl 3 rfl) ?_
        refine z_iald cx (hks.ext (Ext.ofS hS)) (j) (by omega) dX4_valueOf_17 (fun x17 hx17 => ?_)
        obtain rfl := zsub hx17 g2
        refine lv_aload_n hx hb dX4_valueOf_18 rfl (lv_at hl 0 rfl) ?_
        refine z_get cx (k0 := 2) (hOb.ext (Ext.ofS hS)) rfl in_X5 (by decide) q1136 rfl rfl dX4_valueOf_19 ?_
        refine lv_iload_n hx hb dX4_valueOf_22 rfl (lv_at hl 3 rfl) ?_
        refine z_iald cx (hbs.ext (Ext.ofS hS)) (j) (by omega) dX4_valueOf_23 (fun x23 hx23 => ?_)
        obtain rfl := zsub hx23 g1
        refine z_isub cx (z := ((k0 - b0 : Nat) : Int)) dX4_valueOf_24 (by omega) ?_
        refine lv_istore (lv' := [(4, .int (iI ((k0 - b0 : Nat) : Int))), (0, .ref a), (1, .ref b), (2, va_rf r0), (3, .int (iI ↑j))]) hx hb dX4_valueOf_25 hl (by decide) rfl (fun ls hl => ?_)
        refine lv_iload hx hb dX4_valueOf_27 (lv_at hl 0 rfl) ?_
        refine lv_aload_n hx hb dX4_valueOf_29 rfl (lv_at hl 2 rfl) ?_
        refine z_alen cx (hb9.ext (Ext.ofS hS)) dX4_valueOf_30 ?_
        refine z_icmp_ne cx (tgt := 38) dX4_valueOf_31 (by decide) (by omega) (fun c31 => ?_) (fun c31 => ?_)
        · refine lv_iconst (v := iI (0)) hx hb dX4_valueOf_38 rfl ?_
          refine lv_istore (lv' := [(5, .int (iI 0)), (4, .int (iI ((k0 - b0 : Nat) : Int))), (0, .ref a), (1, .ref b), (2, va_rf r0), (3, .int (iI ↑j))]) hx hb dX4_valueOf_39 hl (by decide) rfl (fun ls hl => ?_)
          refine lv_iconst (v := iI (0)) hx hb dX4_valueOf_41 rfl ?_
          refine lv_istore (lv' := [(6, .int (iI 0)), (5, .int (iI 0)), (4, .int (iI ((k0 - b0 : Nat) : Int))), (0, .ref a), (1, .ref b), (2, va_rf r0), (3, .int (iI ↑j))]) hx hb dX4_valueOf_42 hl (by decide) rfl (fun ls hl => ?_)
          exact li _ 0 0 (Nat.lt_succ_self _) (by omega) (b2i_q (fun h => c31 (by rw [← h.1, hwl]))) _ _ _ _ _ hS hR (by omega) (by omega) (lv_sub hl [3, 4, 5, 6, 2, 1, 0] rfl)
        · refine lv_iconst (v := iI (1)) hx hb dX4_valueOf_34 rfl ?_
          refine lv_goto (tgt := 39) hx hb dX4_valueOf_35 (by decide) ?_
          refine lv_istore (lv' := [(5, .int (iI 1)), (4, .int (iI ((k0 - b0 : Nat) : Int))), (0, .ref a), (1, .ref b), (2, va_rf r0), (3, .int (iI ↑j))]) hx hb dX4_valueOf_39 hl (by decide) rfl (fun ls hl => ?_)
          refine lv_iconst (v := iI (0)) hx hb dX4_valueOf_41 rfl ?_
          refine lv_istore (lv' := [(6, .int (iI 0)), (5, .int (iI 1)), (4, .int (iI ((k0 - b0 : Nat) : Int))), (0, .ref a), (1, .ref b), (2, va_rf r0), (3, .int (iI ↑j))]) hx hb dX4_valueOf_42 hl (by decide) rfl (fun ls hl => ?_)
          exact li _ 0 1 (Nat.lt_succ_self _) (by omega) (b2i_p ⟨by omega, rfl⟩) _ _ _ _ _ hS hR (by omega) (by omega) (lv_sub hl [3, 4, 5, 6, 2, 1, 0] rfl)
  exact lp _ 0 none none (Nat.lt_succ_self _) (by omega) rfl ⟨fun x h => (by cases h), fun x h => (by cases h)⟩ _ _ _ _ _ hS (show Orw G (Pur H0) _ none none from trivial) (by rw [List.drop_zero]; omega) (by rw [List.drop_zero]; omega) (lv_sub hl [2, 3, 1, 0] rfl)
