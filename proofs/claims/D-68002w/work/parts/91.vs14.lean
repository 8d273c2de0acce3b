/-! ===== the component: answer ===== -/
set_option maxHeartbeats 4000000 in
set_option maxRecDepth 100000 in
theorem m_X1_answer (G : zE) (l : Launch) (H0 : Heap) (P P' : Nat → Prop) (x a co0 : Nat) (ti : Int) (u0 u1 u2 u3 u4 u5 u7 : Value) (t : Th) (v : Option (List Int)) (hB : Bh G H0) (hx0 : Ob G H0 x 0 [u0, u1, u2, u3, u4, u5, .int (iI ti), u7]) (ht : CTh G P H0 a t) (hc0 : Ct G P' H0 co0 (ctL v)) (hti : 0 ≤ ti ∧ ti ≤ 1000000000) {mc ms : Nat}  : zR G l yX1_answer (ws_ yX1_answer cX1_answer 6 (some FieldType.int)) 6 128 mc ms [.ref x, .ref a, .ref co0] H0 (fun r _ => r = .int (iI (ans v t ti))) (Pur H0) := by
  refine zR.start (cc := cX1_answer) (by decide) (Nat.le_of_ble_eq_true rfl) ?_
  intro p e s m args below meth c Q cx hQ hmn ls hl
  have hx := cx.1
  have hb := cx.2.1
  have hS : va_S (Pur H0) H0 H0 [] := va_S.rf
  have hl : lv_has ls 6 [(0, .ref x), (1, .ref a), (2, .ref co0)] := hl
  have hok := ht.1
  have hag := hok.age hti
  obtain ⟨-, e0, v0, w0, co, hOt, -, -, -, hCt⟩ := id ht
  obtain ⟨-, nl0, ul0, hc9, -⟩ := id hc0
  have hMa := (ctL_ok v nMa).2
  have hMf := (ctL_ok v nMf).2
  have hMs := (ctL_ok v nMs).2
  have rMa := wrd_rg v nMa
  have rMf := wrd_rg v nMf
  have rMs := wrd_rg v nMs
  obtain ⟨s1, s2, s3, s4⟩ := sw_rg rMa
  obtain ⟨t1, t2, t3, t4⟩ := sw_rg rMf
  obtain ⟨q1, q2, q3, q4⟩ := sw_rg rMs
  obtain ⟨A9, hA9⟩ : ∃ A, A = agT t ti := ⟨_, rfl⟩
  have hA8 : tAge t + ti - tSince t = A9 := hA9.symm
  rw [← hA9] at hag
  have hfr := frX_eq t ti
  obtain ⟨f9, hff⟩ : ∃ f, f = frs t ti := ⟨_, rfl⟩
  obtain ⟨m9, hm9⟩ : ∃ f, f = mka (tCc t) := ⟨_, rfl⟩
  obtain ⟨h9, hh9⟩ : ∃ f, f = hasW v nNc := ⟨_, rfl⟩
  have hans : ans v t ti = if h9 = true then 3 else if 0 ≤ wrd v nMa ∧ wrd v nMa < A9 then 3 else if f9 = true then (if wrd v nMf < 0 ∨ A9 + wrd v nMf < tLife t ∨ alw v t ti = true then 1 else 3) else if alw v t ti = true then 2 else 3 := by rw [hh9, hA9, hff]; rfl
  have halw : alw v t ti = (!m9 && decide (wrd v nMs = -1 ∨ (0 ≤ wrd v nMs ∧ A9 < tLife t + wrd v nMs))) := by rw [hm9, hA9]; rfl
  refine lv_aload_n hx hb dX1_answer_0 rfl (lv_at hl 1 rfl) ?_
  refine lv_aload_n hx hb dX1_answer_1 rfl (lv_at hl 0 rfl) ?_
  refine z_get cx (k0 := 6) hx0 rfl in_X1 (by decide) q678 rfl rfl dX1_answer_2 ?_
  refine z_callV cx (j := 1) (m_X7_ageAt G l _ a ti (tAge t) (tSince t) (.int (iI (tPath t))) (.ref e0) (.ref v0) (.ref w0) (.ref co) (.int (iI (tLife t))) (.int (iI (tUsed t : Int))) (hOt.ext (Ext.ofS hS)) (mc := 0) (ms := 0)) (lw_V q828 q829 q830 q60 q831) (zrecv cx hOt rfl) (by decide +kernel) rfl (rest := []) rfl hl (Nat.le_of_ble_eq_true rfl) (by decide) (by omega) dX1_answer_5 hS (fun q h => Nat.le_trans hS.1 h) (fun v5 H locs hp5 hz9 hk9 hS => ?_)
  have hE9 := Ext.of hz9 hk9 (fun q h => h)
  subst hp5
  rw [hA8]
  refine lv_istore_n (lv' := [(3, .int (iI A9)), (0, .ref x), (1, .ref a), (2, .ref co0)]) hx hb dX1_answer_8 rfl hl (by decide) rfl (fun ls hl => ?_)
  refine lv_aload_n hx hb dX1_answer_9 rfl (lv_at hl 3 rfl) ?_
  obtain ⟨la10, ltx, lR, lS10⟩ := lit_X1_180 cx.kk.1
  refine z_ldcS cx lR dX1_answer_10 ?_
  refine z_callV cx (j := 1) (m_X3_has G l _ P' (Old G) co0 la10 (ctL v) nNc (hB.ext (Ext.ofS hS)) (hc0.ext cx.kk.1 (Ext.ofS hS)) (lS10.old (hB.ext (Ext.ofS hS))) (mc := 0) (ms := 0)) (lw_V q833 q834 q835 q37 q836) (zrecv cx (hc9.ext (Ext.ofS hS)) rfl) (by decide +kernel) rfl (rest := []) rfl hl (Nat.le_of_ble_eq_true rfl) (by decide) (by omega) dX1_answer_12 hS (fun q h => Nat.le_trans hS.1 h) (fun v12 H locs hp12 hz9 hk9 hS => ?_)
  have hE9 := Ext.of hz9 hk9 (fun q h => h)
  have hb12 := b2i_rg (decide (ctF (ctL v) nNc ≠ -1))
  subst hp12
  rw [ctL_has, ← hh9]
  have l37 : ∀ (fuel : Nat) , 0 < fuel → (ans v t ti = 3) → ∀ (H : Heap) (locs : List Loc) (ls : Array Slot) (k n : Nat), va_S (Pur H0) H0 H locs → (k ≤ mc) → (n ≤ ms) → lv_has ls 6 [(0, .ref x), (1, .ref a), (2, .ref co0), (3, .int (iI A9))] → W p l e ⟨6, mc, ms, 128⟩ s m args below meth c H locs k n Q (F0 m 37 ls []) := by
    intro fuel
    induction fuel with
    | zero => intro  hf9; exact absurd hf9 (Nat.not_lt_zero _)
    | succ fuel ih_l37 =>
      intro  hf9 h37 H locs ls k n hS  hr1 hr2 hl
      refine lv_iconst (v := iI (3)) hx hb dX1_answer_37 rfl ?_
      exact z_iret cx hQ rfl rfl (by rw [h37]) hS (by omega) dX1_answer_38
  have l39 : ∀ (fuel : Nat) , 0 < fuel → (h9 = false) → (¬ (0 ≤ wrd v nMa ∧ wrd v nMa < A9)) → ∀ (H : Heap) (locs : List Loc) (ls : Array Slot) (k n : Nat), va_S (Pur H0) H0 H locs → (k ≤ mc) → (n ≤ ms) → lv_has ls 6 [(0, .ref x), (1, .ref a), (2, .ref co0), (3, .int (iI A9))] → W p l e ⟨6, mc, ms, 128⟩ s m args below meth c H locs k n Q (F0 m 39 ls []) := by
    intro fuel
    induction fuel with
    | zero => intro  hf9; exact absurd hf9 (Nat.not_lt_zero _)
    | succ fuel ih_l39 =>
      intro  hf9 k1 k2 H locs ls k n hS  hr1 hr2 hl
      have hans : ans v t ti = if f9 = true then (if wrd v nMf < 0 ∨ A9 + wrd v nMf < tLife t ∨ alw v t ti = true then 1 else 3) else if alw v t ti = true then 2 else 3 := by rw [hans, if_neg (by rw [k1]; decide), if_neg k2]
      have l68 : ∀ (fuel : Nat) (y : Bool), 0 < fuel → (y = decide (0 ≤ wrd v nMf ∧ tLife t ≤ A9 + wrd v nMf)) → ∀ (H : Heap) (locs : List Loc) (ls : Array Slot) (k n : Nat), va_S (Pur H0) H0 H locs → (k ≤ mc) → (n ≤ ms) → lv_has ls 6 [(0, .ref x), (1, .ref a), (2, .ref co0), (3, .int (iI A9))] → W p l e ⟨6, mc, ms, 128⟩ s m args below meth c H locs k n Q (F0 m 68 ls [.int (iI (b2i y))]) := by
        intro fuel
        induction fuel with
        | zero => intro y hf9; exact absurd hf9 (Nat.not_lt_zero _)
        | succ fuel ih_l68 =>
          intro y hf9 hy H locs ls k n hS  hr1 hr2 hl
          have hyi : (y = true ∧ 0 ≤ wrd v nMf ∧ tLife t ≤ A9 + wrd v nMf) ∨ (y = false ∧ (wrd v nMf < 0 ∨ A9 + wrd v nMf < tLife t)) := by
            rw [hy]
            by_cases e : 0 ≤ wrd v nMf ∧ tLife t ≤ A9 + wrd v nMf
            · exact Or.inl ⟨decide_eq_true e, e⟩
            · exact Or.inr ⟨decide_eq_false e, by omega⟩
          have l88 : ∀ (fuel : Nat) , 0 < fuel → (f9 = false ∨ y = true) → ∀ (H : Heap) (locs : List Loc) (ls : Array Slot) (k n : Nat), va_S (Pur H0) H0 H locs → (k ≤ mc) → (n ≤ ms) → lv_has ls 6 [(0, .ref x), (1, .ref a), (2, .ref co0), (3, .int (iI A9)), (4, .int (iI (b2i y)))] → W p l e ⟨6, mc, ms, 128⟩ s m args below meth c H locs k n Q (F0 m 88 ls []) := by
            intro fuel
            induction fuel with
            | zero => intro  hf9; exact absurd hf9 (Nat.not_lt_zero _)
            | succ fuel ih_l88 =>
              intro  hf9 hz8 H locs ls k n hS  hr1 hr2 hl
              have hans : ans v t ti = if alw v t ti = true then (if f9 = true then 1 else 2) else 3 := by
                rw [hans]
                cases f9 with
                | false => rw [if_neg Bool.false_ne_true, if_neg Bool.false_ne_true]
                | true =>
                  rw [if_pos rfl, if_pos rfl]
                  have hy1 : y = true := hz8.elim (fun z => by cases z) id
                  rcases hyi with z | z
                  · by_cases e : alw v t ti = true
                    · rw [if_pos (Or.inr (Or.inr e)), if_pos e]
                    · rw [if_neg (fun q => by rcases q with q | q | q; omega; omega; exact e q), if_neg e]
                  · rw [z.1] at hy1; cases hy1
              have l133 : ∀ (fuel : Nat) (g : Bool), 0 < fuel → (alw v t ti = g) → ∀ (H : Heap) (locs : List Loc) (ls : Array Slot) (k n : Nat), va_S (Pur H0) H0 H locs → (k ≤ mc) → (n ≤ ms) → lv_has ls 6 [(0, .ref x), (1, .ref a), (2, .ref co0), (3, .int (iI A9)), (4, .int (iI (b2i y)))] → W p l e ⟨6, mc, ms, 128⟩ s m args below meth c H locs k n Q (F0 m 133 ls [.int (iI (b2i g))]) := by
                intro fuel
                induction fuel with
                | zero => intro g hf9; exact absurd hf9 (Nat.not_lt_zero _)
                | succ fuel ih_l133 =>
                  intro g hf9 hg H locs ls k n hS  hr1 hr2 hl
                  rw [hg] at hans
                  have hb20 : b2i false = 0 := rfl
                  have hb21 : b2i true = 1 := rfl
                  rcases g with _ | _
                  · refine lv_istore (lv' := [(5, .int (iI (b2i false))), (0, .ref x), (1, .ref a), (2, .ref co0), (3, .int (iI A9)), (4, .int (iI (b2i y)))]) hx hb dX1_answer_133 hl (by decide) rfl (fun ls hl => ?_)
                    refine lv_iload hx hb dX1_answer_135 (lv_at hl 0 rfl) ?_
                    refine z_if_ne cx (tgt := 144) dX1_answer_137 (by decide) (by omega) (fun c137 => (by exfalso; exact c137 rfl)) (fun c137 => ?_)
                    refine lv_iconst (v := iI (3)) hx hb dX1_answer_140 rfl ?_
                    refine lv_goto (tgt := 160) hx hb dX1_answer_141 (by decide) ?_
                    exact z_iret cx hQ rfl rfl (by rw [hans]; rfl) hS (by omega) dX1_answer_160
                  · refine lv_istore (lv' := [(5, .int (iI (b2i true))), (0, .ref x), (1, .ref a), (2, .ref co0), (3, .int (iI A9)), (4, .int (iI (b2i y)))]) hx hb dX1_answer_133 hl (by decide) rfl (fun ls hl => ?_)
                    refine lv_iload hx hb dX1_answer_135 (lv_at hl 0 rfl) ?_
                    refine z_if_ne cx (tgt := 144) dX1_answer_137 (by decide) (by omega) (fun c137 => ?_) (fun c137 => (by exfalso; exact absurd c137 (by decide)))
                    refine lv_aload_n hx hb dX1_answer_144 rfl (lv_at hl 2 rfl) ?_
                    refine lv_aload_n hx hb dX1_answer_145 rfl (lv_at hl 1 rfl) ?_
                    refine z_get cx (k0 := 6) (hx0.ext (Ext.ofS hS)) rfl in_X1 (by decide) q678 rfl rfl dX1_answer_146 ?_
                    refine z_callV cx (j := 1) (m_X7_isFresh G l _ P a co (ctL (tCc t)) ti (tLife t) (tAge t) (tSince t) (.int (iI (tPath t))) (.ref e0) (.ref v0) (.ref w0) (.int (iI (tUsed t : Int))) (hB.ext (Ext.ofS hS)) (hOt.ext (Ext.ofS hS)) (hCt.ext cx.kk.1 (Ext.ofS hS)) ⟨by omega, by omega⟩ (mc := 0) (ms := 0)) (lw_V q848 q849 q850 q60 q851) (zrecv cx (hOt.ext (Ext.ofS hS)) rfl) (by decide +kernel) rfl (rest := []) rfl hl (Nat.le_of_ble_eq_true rfl) (by decide) (by omega) dX1_answer_149 hS (fun q h => Nat.le_trans hS.1 h) (fun v149 H locs hp149 hz9 hk9 hS => ?_)
                    have hE9 := Ext.of hz9 hk9 (fun q h => h)
                    have hb149 := b2i_rg (frX (ctL (tCc t)) (tLife t) (tAge t) (tSince t) ti)
                    subst hp149
                    rw [hfr, ← hff]
                    rcases f9 with _ | _
                    · refine z_if_eq cx (tgt := 159) dX1_answer_152 (by decide) (by omega) (fun c152 => ?_) (fun c152 => (by exfalso; exact c152 rfl))
                      refine lv_iconst (v := iI (2)) hx hb dX1_answer_159 rfl ?_
                      exact z_iret cx hQ rfl rfl (by rw [hans]; rfl) hS (by omega) dX1_answer_160
                    · refine z_if_eq cx (tgt := 159) dX1_answer_152 (by decide) (by omega) (fun c152 => (by exfalso; exact absurd c152 (by decide))) (fun c152 => ?_)
                      refine lv_iconst (v := iI (1)) hx hb dX1_answer_155 rfl ?_
                      refine lv_goto (tgt := 160) hx hb dX1_answer_156 (by decide) ?_
                      exact z_iret cx hQ rfl rfl (by rw [hans]; rfl) hS (by omega) dX1_answer_160
              have halF : wrd v nMs = -2 ∨ m9 = true ∨ (0 ≤ wrd v nMs ∧ tLife t + wrd v nMs ≤ A9) → alw v t ti = false := fun z => by
                rw [halw]
                rcases z with z | z | z
                · rw [decide_eq_false (by omega), Bool.and_false]
                · rw [z]; rfl
                · rw [decide_eq_false (by omega), Bool.and_false]
              have halT : m9 = false → wrd v nMs = -1 ∨ (0 ≤ wrd v nMs ∧ A9 < tLife t + wrd v nMs) → alw v t ti = true := fun z z2 => by rw [halw, z, decide_eq_true z2]; rfl
              refine lv_aload_n hx hb dX1_answer_88 rfl (lv_at hl 2 rfl) ?_
              obtain ⟨la89, ltx, lR, lS89⟩ := lit_X1_197 cx.kk.1
              refine z_ldcS cx lR dX1_answer_89 ?_
              refine z_callV cx (j := 1) (m_X3_has G l _ P' (Old G) co0 la89 (ctL v) nMs (hB.ext (Ext.ofS hS)) (hc0.ext cx.kk.1 (Ext.ofS hS)) (lS89.old (hB.ext (Ext.ofS hS))) (mc := 0) (ms := 0)) (lw_V q833 q834 q835 q37 q836) (zrecv cx (hc9.ext (Ext.ofS hS)) rfl) (by decide +kernel) rfl (rest := []) rfl hl (Nat.le_of_ble_eq_true rfl) (by decide) (by omega) dX1_answer_91 hS (fun q h => Nat.le_trans hS.1 h) (fun v91 H locs hp91 hz9 hk9 hS => ?_)
              have hE9 := Ext.of hz9 hk9 (fun q h => h)
              have hb91 := b2i_rg (decide (ctF (ctL v) nMs ≠ -1))
              subst hp91
              rw [ctL_has, hasW]
              have hr1 := b2i_rg (decide (wrd v nMs ≠ -2))
              refine z_if_eq cx (tgt := 132) dX1_answer_94 (by decide) (by omega) (fun c94 => ?_) (fun c94 => ?_)
              · have hn := Classical.not_not.mp (b2i_F c94)
                refine lv_iconst (v := iI (0)) hx hb dX1_answer_132 rfl ?_
                exact l133 _ false (Nat.lt_succ_self _) (halF (Or.inl hn)) _ _ _ _ _ hS  (by omega) (by omega) (lv_sub hl [0, 1, 2, 3, 4] rfl)
              · have hn := b2i_T c94
                refine lv_aload_n hx hb dX1_answer_97 rfl (lv_at hl 1 rfl) ?_
                refine z_callV cx (j := 0) (m_X7_isStrict G l _ P a co (ctL (tCc t)) (.int (iI (tPath t))) (.ref e0) (.ref v0) (.ref w0) (.int (iI (tLife t))) (.int (iI (tAge t))) (.int (iI (tSince t))) (.int (iI (tUsed t : Int))) (hB.ext (Ext.ofS hS)) (hOt.ext (Ext.ofS hS)) (hCt.ext cx.kk.1 (Ext.ofS hS)) (mc := 0) (ms := 0)) (lw_V q856 q857 q858 q60 q859) (zrecv cx (hOt.ext (Ext.ofS hS)) rfl) (by decide +kernel) rfl (rest := []) rfl hl (Nat.le_of_ble_eq_true rfl) (by decide) (by omega) dX1_answer_98 hS (fun q h => Nat.le_trans hS.1 h) (fun v98 H locs hp98 hz9 hk9 hS => ?_)
                have hE9 := Ext.of hz9 hk9 (fun q h => h)
                have hb98 := b2i_rg (stX (ctL (tCc t)))
                subst hp98
                rw [stX_eq, ← hm9]
                have hb20 : b2i false = 0 := rfl
                have hb21 : b2i true = 1 := rfl
                rcases m9 with _ | _
                · refine z_if_ne cx (tgt := 132) dX1_answer_101 (by decide) (by omega) (fun c101 => (by exfalso; exact c101 rfl)) (fun c101 => ?_)
                  refine lv_aload_n hx hb dX1_answer_104 rfl (lv_at hl 2 rfl) ?_
                  obtain ⟨la105, ltx, lR, lS105⟩ := lit_X1_197 cx.kk.1
                  refine z_ldcS cx lR dX1_answer_105 ?_
                  refine z_callV cx (j := 1) (m_X3_of G l _ P' (Old G) co0 la105 (ctL v) nMs (hB.ext (Ext.ofS hS)) (hc0.ext cx.kk.1 (Ext.ofS hS)) (lS105.old (hB.ext (Ext.ofS hS))) (mc := 0) (ms := 0)) (lw_V q838 q839 q840 q37 q841) (zrecv cx (hc9.ext (Ext.ofS hS)) rfl) (by decide +kernel) rfl (rest := []) rfl hl (Nat.le_of_ble_eq_true rfl) (by decide) (by omega) dX1_answer_107 hS (fun q h => Nat.le_trans hS.1 h) (fun v107 H locs hp107 hz9 hk9 hS => ?_)
                  have hE9 := Ext.of hz9 hk9 (fun q h => h)
                  subst hp107
                  rw [hMs]
                  refine z_if_lt cx (tgt := 128) dX1_answer_110 (by decide) (by omega) (fun c110 => ?_) (fun c110 => ?_)
                  · refine lv_iconst (v := iI (1)) hx hb dX1_answer_128 rfl ?_
                    refine lv_goto (tgt := 133) hx hb dX1_answer_129 (by decide) ?_
                    exact l133 _ true (Nat.lt_succ_self _) (halT rfl (Or.inl (by omega))) _ _ _ _ _ hS  (by omega) (by omega) (lv_sub hl [0, 1, 2, 3, 4] rfl)
                  · have e9 := q4 (by omega)
                    refine lv_iload_n hx hb dX1_answer_113 rfl (lv_at hl 3 rfl) ?_
                    refine lv_aload_n hx hb dX1_answer_114 rfl (lv_at hl 1 rfl) ?_
                    refine z_getN cx (k0 := 5) (hOt.ext (Ext.ofS hS)) rfl in_X7 (by decide) q903 rfl rfl dX1_answer_115 ?_
                    refine lv_aload_n hx hb dX1_answer_118 rfl (lv_at hl 2 rfl) ?_
                    obtain ⟨la119, ltx, lR, lS119⟩ := lit_X1_197 cx.kk.1
                    refine z_ldcS cx lR dX1_answer_119 ?_
                    refine z_callV cx (j := 1) (m_X3_of G l _ P' (Old G) co0 la119 (ctL v) nMs (hB.ext (Ext.ofS hS)) (hc0.ext cx.kk.1 (Ext.ofS hS)) (lS119.old (hB.ext (Ext.ofS hS))) (mc := 0) (ms := 0)) (lw_V q838 q839 q840 q37 q841) (zrecv cx (hc9.ext (Ext.ofS hS)) rfl) (by decide +kernel) rfl (rest := [.int (iI (tLife t)), .int (iI A9)]) rfl hl (Nat.le_of_ble_eq_true rfl) (by decide) (by omega) dX1_answer_121 hS (fun q h => Nat.le_trans hS.1 h) (fun v121 H locs hp121 hz9 hk9 hS => ?_)
                    have hE9 := Ext.of hz9 hk9 (fun q h => h)
                    subst hp121
                    rw [hMs]
                    refine z_iadd cx (z := tLife t + sw (wrd v nMs)) dX1_answer_124 (by omega) ?_
                    refine z_icmp_ge cx (tgt := 132) dX1_answer_125 (by decide) (by omega) (fun c125 => ?_) (fun c125 => ?_)
                    · refine lv_iconst (v := iI (0)) hx hb dX1_answer_132 rfl ?_
                      exact l133 _ false (Nat.lt_succ_self _) (halF (Or.inr (Or.inr ⟨by omega, by omega⟩))) _ _ _ _ _ hS  (by omega) (by omega) (lv_sub hl [0, 1, 2, 3, 4] rfl)
                    · refine lv_iconst (v := iI (1)) hx hb dX1_answer_128 rfl ?_
                      refine lv_goto (tgt := 133) hx hb dX1_answer_129 (by decide) ?_
                      exact l133 _ true (Nat.lt_succ_self _) (halT rfl (Or.inr ⟨by omega, by omega⟩)) _ _ _ _ _ hS  (by omega) (by omega) (lv_sub hl [0, 1, 2, 3, 4] rfl)
                · refine z_if_ne cx (tgt := 132) dX1_answer_101 (by decide) (by omega) (fun c101 => ?_) (fun c101 => (by exfalso; exact absurd c101 (by decide)))
                  refine lv_iconst (v := iI (0)) hx hb dX1_answer_132 rfl ?_
                  exact l133 _ false (Nat.lt_succ_self _) (halF (Or.inr (Or.inl rfl))) _ _ _ _ _ hS  (by omega) (by omega) (lv_sub hl [0, 1, 2, 3, 4] rfl)
          refine lv_istore (lv' := [(4, .int (iI (b2i y))), (0, .ref x), (1, .ref a), (2, .ref co0), (3, .int (iI A9))]) hx hb dX1_answer_68 hl (by decide) rfl (fun ls hl => ?_)
          refine lv_aload_n hx hb dX1_answer_70 rfl (lv_at hl 2 rfl) ?_
          refine lv_aload_n hx hb dX1_answer_71 rfl (lv_at hl 1 rfl) ?_
          refine z_get cx (k0 := 6) (hx0.ext (Ext.ofS hS)) rfl in_X1 (by decide) q678 rfl rfl dX1_answer_72 ?_
          refine z_callV cx (j := 1) (m_X7_isFresh G l _ P a co (ctL (tCc t)) ti (tLife t) (tAge t) (tSince t) (.int (iI (tPath t))) (.ref e0) (.ref v0) (.ref w0) (.int (iI (tUsed t : Int))) (hB.ext (Ext.ofS hS)) (hOt.ext (Ext.ofS hS)) (hCt.ext cx.kk.1 (Ext.ofS hS)) ⟨by omega, by omega⟩ (mc := 0) (ms := 0)) (lw_V q848 q849 q850 q60 q851) (zrecv cx (hOt.ext (Ext.ofS hS)) rfl) (by decide +kernel) rfl (rest := []) rfl hl (Nat.le_of_ble_eq_true rfl) (by decide) (by omega) dX1_answer_75 hS (fun q h => Nat.le_trans hS.1 h) (fun v75 H locs hp75 hz9 hk9 hS => ?_)
          have hE9 := Ext.of hz9 hk9 (fun q h => h)
          have hb75 := b2i_rg (frX (ctL (tCc t)) (tLife t) (tAge t) (tSince t) ti)
          subst hp75
          rw [hfr, ← hff]
          have hb20 : b2i false = 0 := rfl
          have hb21 : b2i true = 1 := rfl
          rcases f9 with _ | _
          · refine z_if_eq cx (tgt := 88) dX1_answer_78 (by decide) (by omega) (fun c78 => ?_) (fun c78 => (by exfalso; exact c78 rfl))
            exact l88 _  (Nat.lt_succ_self _) (Or.inl rfl) _ _ _ _ _ hS  (by omega) (by omega) (lv_sub hl [1, 2, 3, 4, 0] rfl)
          · rcases y with _ | _
            · refine z_if_eq cx (tgt := 88) dX1_answer_78 (by decide) (by omega) (fun c78 => (by exfalso; exact absurd c78 (by decide))) (fun c78 => ?_)
              refine lv_iload hx hb dX1_answer_81 (lv_at hl 0 rfl) ?_
              refine z_if_ne cx (tgt := 88) dX1_answer_83 (by decide) (by omega) (fun c83 => (by exfalso; exact c83 rfl)) (fun c83 => ?_)
              have hz : wrd v nMf < 0 ∨ A9 + wrd v nMf < tLife t := by
                rcases hyi with z | z
                · cases z.1
                · exact z.2
              have hfin : ans v t ti = 1 := by rw [hans, if_pos rfl, if_pos (by rcases hz with q | q; exact Or.inl q; exact Or.inr (Or.inl q))]
              refine lv_iconst (v := iI (1)) hx hb dX1_answer_86 rfl ?_
              exact z_iret cx hQ rfl rfl (by rw [hfin]) hS (by omega) dX1_answer_87
            · refine z_if_eq cx (tgt := 88) dX1_answer_78 (by decide) (by omega) (fun c78 => (by exfalso; exact absurd c78 (by decide))) (fun c78 => ?_)
              refine lv_iload hx hb dX1_answer_81 (lv_at hl 0 rfl) ?_
              refine z_if_ne cx (tgt := 88) dX1_answer_83 (by decide) (by omega) (fun c83 => ?_) (fun c83 => (by exfalso; exact absurd c83 (by decide)))
              exact l88 _  (Nat.lt_succ_self _) (Or.inr rfl) _ _ _ _ _ hS  (by omega) (by omega) (lv_sub hl [1, 2, 3, 4, 0] rfl)
      refine lv_aload_n hx hb dX1_answer_39 rfl (lv_at hl 2 rfl) ?_
      obtain ⟨la40, ltx, lR, lS40⟩ := lit_X1_188 cx.kk.1
      refine z_ldcS cx lR dX1_answer_40 ?_
      refine z_callV cx (j := 1) (m_X3_of G l _ P' (Old G) co0 la40 (ctL v) nMf (hB.ext (Ext.ofS hS)) (hc0.ext cx.kk.1 (Ext.ofS hS)) (lS40.old (hB.ext (Ext.ofS hS))) (mc := 0) (ms := 0)) (lw_V q838 q839 q840 q37 q841) (zrecv cx (hc9.ext (Ext.ofS hS)) rfl) (by decide +kernel) rfl (rest := []) rfl hl (Nat.le_of_ble_eq_true rfl) (by decide) (by omega) dX1_answer_42 hS (fun q h => Nat.le_trans hS.1 h) (fun v42 H locs hp42 hz9 hk9 hS => ?_)
      have hE9 := Ext.of hz9 hk9 (fun q h => h)
      subst hp42
      rw [hMf]
      refine z_if_lt cx (tgt := 67) dX1_answer_45 (by decide) (by omega) (fun c45 => ?_) (fun c45 => ?_)
      · refine lv_iconst (v := iI (0)) hx hb dX1_answer_67 rfl ?_
        exact l68 _ false (Nat.lt_succ_self _) ((decide_eq_false (by omega)).symm) _ _ _ _ _ hS  (by omega) (by omega) (lv_sub hl [0, 1, 2, 3] rfl)
      · have e9 := t4 (by omega)
        refine lv_iload_n hx hb dX1_answer_48 rfl (lv_at hl 3 rfl) ?_
        refine lv_aload_n hx hb dX1_answer_49 rfl (lv_at hl 2 rfl) ?_
        obtain ⟨la50, ltx, lR, lS50⟩ := lit_X1_188 cx.kk.1
        refine z_ldcS cx lR dX1_answer_50 ?_
        refine z_callV cx (j := 1) (m_X3_of G l _ P' (Old G) co0 la50 (ctL v) nMf (hB.ext (Ext.ofS hS)) (hc0.ext cx.kk.1 (Ext.ofS hS)) (lS50.old (hB.ext (Ext.ofS hS))) (mc := 0) (ms := 0)) (lw_V q838 q839 q840 q37 q841) (zrecv cx (hc9.ext (Ext.ofS hS)) rfl) (by decide +kernel) rfl (rest := [.int (iI A9)]) rfl hl (Nat.le_of_ble_eq_true rfl) (by decide) (by omega) dX1_answer_52 hS (fun q h => Nat.le_trans hS.1 h) (fun v52 H locs hp52 hz9 hk9 hS => ?_)
        have hE9 := Ext.of hz9 hk9 (fun q h => h)
        subst hp52
        rw [hMf]
        refine z_iadd cx (z := A9 + sw (wrd v nMf)) dX1_answer_55 (by omega) ?_
        refine lv_aload_n hx hb dX1_answer_56 rfl (lv_at hl 1 rfl) ?_
        refine z_getN cx (k0 := 5) (hOt.ext (Ext.ofS hS)) rfl in_X7 (by decide) q903 rfl rfl dX1_answer_57 ?_
        refine z_icmp_lt cx (tgt := 67) dX1_answer_60 (by decide) (by omega) (fun c60 => ?_) (fun c60 => ?_)
        · refine lv_iconst (v := iI (0)) hx hb dX1_answer_67 rfl ?_
          exact l68 _ false (Nat.lt_succ_self _) ((decide_eq_false (by omega)).symm) _ _ _ _ _ hS  (by omega) (by omega) (lv_sub hl [0, 1, 2, 3] rfl)
        · refine lv_iconst (v := iI (1)) hx hb dX1_answer_63 rfl ?_
          refine lv_goto (tgt := 68) hx hb dX1_answer_64 (by decide) ?_
          exact l68 _ true (Nat.lt_succ_self _) ((decide_eq_true ⟨by omega, by omega⟩).symm) _ _ _ _ _ hS  (by omega) (by omega) (lv_sub hl [0, 1, 2, 3] rfl)
  have hb20 : b2i false = 0 := rfl
  have hb21 : b2i true = 1 := rfl
  rcases h9 with _ | _
  · refine z_if_ne cx (tgt := 37) dX1_answer_15 (by decide) (by omega) (fun c15 => (by exfalso; exact c15 rfl)) (fun c15 => ?_)
    refine lv_aload_n hx hb dX1_answer_18 rfl (lv_at hl 3 rfl) ?_
    obtain ⟨la19, ltx, lR, lS19⟩ := lit_X1_182 cx.kk.1
    refine z_ldcS cx lR dX1_answer_19 ?_
    refine z_callV cx (j := 1) (m_X3_of G l _ P' (Old G) co0 la19 (ctL v) nMa (hB.ext (Ext.ofS hS)) (hc0.ext cx.kk.1 (Ext.ofS hS)) (lS19.old (hB.ext (Ext.ofS hS))) (mc := 0) (ms := 0)) (lw_V q838 q839 q840 q37 q841) (zrecv cx (hc9.ext (Ext.ofS hS)) rfl) (by decide +kernel) rfl (rest := []) rfl hl (Nat.le_of_ble_eq_true rfl) (by decide) (by omega) dX1_answer_21 hS (fun q h => Nat.le_trans hS.1 h) (fun v21 H locs hp21 hz9 hk9 hS => ?_)
    have hE9 := Ext.of hz9 hk9 (fun q h => h)
    subst hp21
    rw [hMa]
    refine z_if_lt cx (tgt := 39) dX1_answer_24 (by decide) (by omega) (fun c24 => ?_) (fun c24 => ?_)
    · exact l39 _  (Nat.lt_succ_self _) rfl (by omega) _ _ _ _ _ hS  (by omega) (by omega) (lv_sub hl [1, 2, 3, 0] rfl)
    · have e9 := s4 (by omega)
      refine lv_iload_n hx hb dX1_answer_27 rfl (lv_at hl 0 rfl) ?_
      refine lv_aload_n hx hb dX1_answer_28 rfl (lv_at hl 3 rfl) ?_
      obtain ⟨la29, ltx, lR, lS29⟩ := lit_X1_182 cx.kk.1
      refine z_ldcS cx lR dX1_answer_29 ?_
      refine z_callV cx (j := 1) (m_X3_of G l _ P' (Old G) co0 la29 (ctL v) nMa (hB.ext (Ext.ofS hS)) (hc0.ext cx.kk.1 (Ext.ofS hS)) (lS29.old (hB.ext (Ext.ofS hS))) (mc := 0) (ms := 0)) (lw_V q838 q839 q840 q37 q841) (zrecv cx (hc9.ext (Ext.ofS hS)) rfl) (by decide +kernel) rfl (rest := [.int (iI A9)]) rfl hl (Nat.le_of_ble_eq_true rfl) (by decide) (by omega) dX1_answer_31 hS (fun q h => Nat.le_trans hS.1 h) (fun v31 H locs hp31 hz9 hk9 hS => ?_)
      have hE9 := Ext.of hz9 hk9 (fun q h => h)
      subst hp31
      rw [hMa]
      refine z_icmp_le cx (tgt := 39) dX1_answer_34 (by decide) (by omega) (fun c34 => ?_) (fun c34 => ?_)
      · exact l39 _  (Nat.lt_succ_self _) rfl (by omega) _ _ _ _ _ hS  (by omega) (by omega) (lv_sub hl [1, 2, 3, 0] rfl)
      · exact l37 _  (Nat.lt_succ_self _) (by rw [hans, if_neg Bool.false_ne_true, if_pos (by omega)]) _ _ _ _ _ hS  (by omega) (by omega) (lv_sub hl [1, 2, 3, 0] rfl)
  · refine z_if_ne cx (tgt := 37) dX1_answer_15 (by decide) (by omega) (fun c15 => ?_) (fun c15 => (by exfalso; exact absurd c15 (by decide)))
    exact l37 _  (Nat.lt_succ_self _) (by rw [hans, if_pos rfl]) _ _ _ _ _ hS  (by omega) (by omega) (lv_sub hl [1, 2, 3, 0] rfl)
