/-! ===== the component: the tape read ===== -/
set_option maxHeartbeats 4000000 in
set_option maxRecDepth 100000 in
theorem m_X1_read (G : zE) (l : Launch) (H0 : Heap) (x tp th rq wi : Nat) (fa0 ti us : Int) (tx pad : List Int) (hB : Bh G H0) (hxb : G.2.heap.size ≤ x) (hx0 : Ob G H0 x 0 [.ref tp, .ref th, .ref rq, .ref wi, .int (iI (tx.length : Int)), .int (iI fa0), .int (iI ti), .int (iI us)]) (ht0 : Ai G H0 tp 100 (tx ++ pad)) (htc : chs tx ∧ chs pad ∧ tx.length ≤ 300) {mc ms : Nat} (hmc : 10 * tx.length + 30 ≤ mc) (hms : (116 + 2 * tx.length) * tx.length + 28 * tx.length + 500 ≤ ms) : zR G l yX1_read (ws_ yX1_read cX1_read 3 (some (FieldType.object "VaryStore$Headers"))) 18 411 mc ms [.ref x] H0 (fun r H1 => Ob G H1 x 0 [.ref tp, .ref th, .ref rq, .ref wi, .int (iI 0), .int (iI (rdT tx).1), .int (iI ti), .int (iI us)] ∧ (((rdT tx).1 = -1 ∧ ∃ (h : Nat) (rs : List Nat) (cs : List Bool), r = .ref h ∧ HR G (fun q => (H0.size ≤ q ∨ q < G.2.heap.size) ∧ q ∉ rs) H1 h rs (mrg (tln tx (rdT tx).2)) cs ∧ rs.Nodup ∧ (∀ r ∈ rs, H0.size ≤ r) ∧ tsz (mrg (tln tx (rdT tx).2)) ≤ tx.length) ∨ ((rdT tx).1 ≠ -1 ∧ r = .null))) (fun q => H0.size ≤ q ∨ q = x) := by
  refine zR.start (cc := cX1_read) (by decide) (Nat.le_of_ble_eq_true rfl) ?_
  intro p e s m args below meth c Q cx hQ hmn ls hl
  have hx := cx.1
  have hb := cx.2.1
  have hS : va_S (fun q => H0.size ≤ q ∨ q = x) H0 H0 [] := va_S.rf
  have hl : lv_has ls 3 [(0, .ref x)] := hl
  have hB9 := hB.1
  have hBA : ∀ q, (H0.size ≤ q ∨ q = x) → G.2.heap.size ≤ q := fun q z => by rcases z with z | z <;> omega
  have hxl := hx0.lt
  have htl := ht0.lt
  have htx : tp ≠ x := ht0.cl.ne hx0.cl cx.kk rfl
  obtain ⟨N, hN9⟩ : ∃ N, N = tx.length := ⟨_, rfl⟩
  obtain ⟨C, hC9⟩ : ∃ C, C = 116 + 2 * N := ⟨_, rfl⟩
  rw [← hN9, ← hC9] at hms
  rw [← hN9] at hmc
  have hpr := prs_rg tx htc.2.2 (tx.length + 1) 0 []
  refine z_new cx (ci := 1) (vs := [.null]) hS rfl in_X2 tyX2_ok q102 q103 q36 (zdefX2) (by omega) dX1_read_0 (fun h H hh hgh Ah hz9 hE9 hS => ?_)
  have hx0 := hx0.ext hE9
  refine lv_dup hx hb dX1_read_3 rfl ?_
  have hhx : h ≠ x := by omega
  have h8 := hx0
  refine z_callIN cx (j := 0) (m_X2_init G l _ h (hB.ofS hS hBA) (by omega) Ah (mc := 1) (ms := 3) (Nat.le_refl _) (Nat.le_refl _)) (lw_meth q106) q36 q104 q105 rfl (by decide +kernel) rfl (rest := [.ref h]) rfl hl (Nat.le_of_ble_eq_true rfl) (by decide) (by omega) dX1_read_4 hS (fun q h => by rcases h with h | h; exact Or.inl (Nat.le_trans hS.1 h); exact Or.inl (by omega)) (fun H locs hp4 hz9 hk9 hS => ?_)
  obtain ⟨L, hgL, hh, hL⟩ := hp4
  have hx1 := h8.kept (hk9 x h8.lt (by rintro (z | z); have := h8.lt; omega; exact hhx z.symm))
  have hhL : h ≠ L := hh.cl.ne hL.cl cx.kk rfl
  have hgL0 : H0.size ≤ L := by omega
  have hxL : x ≠ L := hx1.cl.ne hL.cl cx.kk rfl
  refine lv_astore_n (lv' := [(1, .ref h), (0, .ref x)]) hx hb dX1_read_7 rfl hl (by decide) rfl (fun ls hl => ?_)
  refine lv_iconst (v := iI (0)) hx hb dX1_read_8 rfl ?_
  refine lv_istore_n (lv' := [(2, .int (iI 0)), (1, .ref h), (0, .ref x)]) hx hb dX1_read_9 rfl hl (by decide) rfl (fun ls hl => ?_)
  refine lv_aload_n hx hb dX1_read_10 rfl (lv_at hl 2 rfl) ?_
  refine lv_iconst (v := iI (-1)) hx hb dX1_read_11 rfl ?_
  refine z_put cx (k0 := 5) (vs' := [.ref tp, .ref th, .ref rq, .ref wi, .int (iI ↑tx.length), .int (iI (-1)), .int (iI ti), .int (iI us)]) hx1 (Or.inr rfl) hS rfl in_X1 tyX1_ok nmX1 (by decide) q677 rfl rfl  rfl (Nat.le_of_ble_eq_true rfl) ⟨rfl, rfl⟩ dX1_read_12 (fun H locs hx1 hz9 hq9 hS => ?_)
  have hh := hh.kept (hq9 _ hhx)
  have hL := hL.kept (hq9 _ (Ne.symm hxL))
  have hLn : LnB G (HQ G (fun q => H0.size ≤ q ∨ q < G.2.heap.size) L (e0 G) []) H [] [] [] := ⟨rfl, rfl, fun i r t cb h => by simp at h⟩
  have lp : ∀ (fuel : Nat) (a d ed cap : Nat) (fa mz : Int) (acc : Lns) (rs : List Nat) (T : Txt) (cs : List Bool), (302 - a) < fuel → ((fa = -1 ∧ rdT tx = prs tx d a acc ∧ T = mrg (tln tx acc) ∧ N < a + d ∧ a ≤ N ∧ tsz T ≤ a) ∨ (0 ≤ fa ∧ fa ≤ 300 ∧ (rdT tx).1 = fa)) → (a ≤ 301) → (cap ≤ 10 + 2 * (N + 2)) → (rs.Nodup) → (∀ r ∈ rs, H0.size ≤ r) → (ed = e0 G ∨ H0.size ≤ ed) → (T.length ≤ N + 2) → ∀ (H : Heap) (locs : List Loc) (ls : Array Slot) (k n : Nat), va_S (fun q => H0.size ≤ q ∨ q = x) H0 H locs → Ob G H x 0 [.ref tp, .ref th, .ref rq, .ref wi, .int (iI ↑tx.length), .int (iI fa), .int (iI ti), .int (iI us)] → Ob G H h 1 [.ref L] → Ob G H L 8 [.int (iI mz), .ref ed, .int (iI ↑rs.length)] → EDok G H ed rs cap → (LnB G (HQ G (fun q => H0.size ≤ q ∨ q < G.2.heap.size) L ed rs) H rs T cs) → (k ≤ mc) → (n ≤ ms) → (fa = -1 → k + 10 * (N - a) + 25 ≤ mc) → (fa = -1 → n + C * (N - a) + (20 * N + 300) + 4 * (10 + 2 * (N + 2)) ≤ ms + 4 * cap) → lv_has ls 3 [(0, .ref x), (1, .ref h), (2, .int (iI ↑a))] → W p l e ⟨18, mc, ms, 411⟩ s m args below meth c H locs k n Q (F0 m 15 ls []) := by
    intro fuel
    induction fuel with
    | zero => intro a d ed cap fa mz acc rs T cs hf9; exact absurd hf9 (Nat.not_lt_zero _)
    | succ fuel ih_lp =>
      intro a d ed cap fa mz acc rs T cs hf9 hst hac hcp hnd hrb hge hTl H locs ls k n hS hx1 hh hL hed hLn hr1 hr2 hr3 hr4 hl
      have hTc : ∀ r ∈ rs, ∃ t cb, Ln G (HQ G (fun q => H0.size ≤ q ∨ q < G.2.heap.size) L ed rs) H r t cb := fun r hr => hLn.get hr
      have l41 : ∀ (fuel : Nat) , 0 < fuel → ((fa = -1 ∧ rdT tx = (-1, acc) ∧ T = mrg (tln tx acc) ∧ tsz T ≤ N) ∨ (0 ≤ fa ∧ fa ≤ 300 ∧ (rdT tx).1 = fa)) → ∀ (H : Heap) (locs : List Loc) (ls : Array Slot) (k n : Nat), va_S (fun q => H0.size ≤ q ∨ q = x) H0 H locs → Ob G H x 0 [.ref tp, .ref th, .ref rq, .ref wi, .int (iI ↑tx.length), .int (iI fa), .int (iI ti), .int (iI us)] → Ob G H h 1 [.ref L] → Ob G H L 8 [.int (iI mz), .ref ed, .int (iI ↑rs.length)] → EDok G H ed rs cap → (LnB G (HQ G (fun q => H0.size ≤ q ∨ q < G.2.heap.size) L ed rs) H rs T cs) → (k ≤ mc) → (n ≤ ms) → lv_has ls 3 [(0, .ref x), (1, .ref h), (2, .int (iI ↑a))] → W p l e ⟨18, mc, ms, 411⟩ s m args below meth c H locs k n Q (F0 m 41 ls []) := by
        intro fuel
        induction fuel with
        | zero => intro  hf9; exact absurd hf9 (Nat.not_lt_zero _)
        | succ fuel ih_l41 =>
          intro  hf9 hfin H locs ls k n hS hx1 hh hL hed hLn hr1 hr2 hl
          have hex : ed ≠ x := hed.ne cx.kk hx1.cl hxb rfl
          have hrx : ∀ r ∈ rs, r ≠ x := fun r hr => by have := hrb r hr; omega
          refine lv_aload_n hx hb dX1_read_41 rfl (lv_at hl 0 rfl) ?_
          refine lv_iconst (v := iI (0)) hx hb dX1_read_42 rfl ?_
          refine z_put cx (k0 := 4) (vs' := [.ref tp, .ref th, .ref rq, .ref wi, .int (iI 0), .int (iI fa), .int (iI ti), .int (iI us)]) hx1 (Or.inr rfl) hS rfl in_X1 tyX1_ok nmX1 (by decide) q676 rfl rfl  rfl (Nat.le_of_ble_eq_true rfl) ⟨rfl, rfl⟩ dX1_read_43 (fun H locs hx1 hz9 hq9 hS => ?_)
          have hh := hh.kept (hq9 _ hhx)
          have hL := hL.kept (hq9 _ (Ne.symm hxL))
          have hed := hed.kept (fun _ _ => hq9 _ hex)
          have hLn := hLn.kp (Q' := HQ G (fun q => H0.size ≤ q ∨ q < G.2.heap.size) L ed rs) (Kp.put hq9 (fun q z => by have z : H0.size ≤ q ∨ q < G.2.heap.size := z.1; omega)) (fun r hr => hq9 r (hrx r hr))
          refine lv_aload_n hx hb dX1_read_46 rfl (lv_at hl 0 rfl) ?_
          refine z_get cx (k0 := 5) hx1 rfl in_X1 (by decide) q677 rfl rfl dX1_read_47 ?_
          refine lv_iconst (v := iI (-1)) hx hb dX1_read_50 rfl ?_
          refine z_icmp_ne cx (tgt := 58) dX1_read_51 (by decide) (by omega) (fun c51 => ?_) (fun c51 => ?_)
          · have hf2 : 0 ≤ fa ∧ (rdT tx).1 = fa := by rcases hfin with z | z; exact absurd z.1 c51; exact ⟨z.1, z.2.2⟩
            refine lv_null hx hb dX1_read_58 ?_
            exact z_nret cx hQ rfl (Or.inl ⟨_, rfl⟩) (⟨by rw [hf2.2]; exact hx1, Or.inr ⟨by rw [hf2.2]; exact c51, rfl⟩⟩) hS (by omega) dX1_read_59
          · have hf2 : rdT tx = (-1, acc) ∧ T = mrg (tln tx acc) ∧ tsz T ≤ N := by rcases hfin with z | z; exact z.2; omega
            have hnh : h ∉ rs := fun z => by obtain ⟨t, cb, ht⟩ := hLn.get z; exact ht.cl.ne hh.cl cx.kk rfl rfl
            have hnL : L ∉ rs := fun z => by obtain ⟨t, cb, ht⟩ := hLn.get z; exact ht.cl.ne hL.cl cx.kk rfl rfl
            have hne : ed ∉ rs := fun z => by obtain ⟨t, cb, ht⟩ := hLn.get z; exact hed.ne cx.kk ht.cl (by have := hrb ed z; omega) rfl rfl
            refine lv_aload_n hx hb dX1_read_54 rfl (lv_at hl 1 rfl) ?_
            refine lv_goto (tgt := 59) hx hb dX1_read_55 (by decide) ?_
            exact z_aret cx hQ rfl (Or.inl ⟨_, rfl⟩) (⟨by rw [hf2.1]; rw [c51] at hx1; exact hx1, Or.inl ⟨by rw [hf2.1], h, rs, cs, rfl, by rw [hf2.1]; rw [hf2.2.1] at hLn; exact ⟨L, ed, cap, mz, ⟨Or.inl (by omega), hnh⟩, ⟨Or.inl hgL0, hnL⟩, hge.imp id (fun z => ⟨Or.inl z, hne⟩), hh, hL, hed, by omega, hLn.kp (Kp.weak (fun q _ z => ⟨z.1, fun w => z.2 (Or.inr (Or.inr w))⟩)) (fun _ _ => rfl)⟩, hnd, hrb, by rw [hf2.1]; rw [hf2.2.1] at hf2; rw [← hN9]; exact hf2.2.2⟩⟩) hS (by omega) dX1_read_59
      refine lv_iload_n hx hb dX1_read_15 rfl (lv_at hl 2 rfl) ?_
      refine lv_aload_n hx hb dX1_read_16 rfl (lv_at hl 0 rfl) ?_
      refine z_get cx (k0 := 4) hx1 rfl in_X1 (by decide) q676 rfl rfl dX1_read_17 ?_
      refine z_icmp_ge cx (tgt := 41) dX1_read_20 (by decide) (by omega) (fun c20 => ?_) (fun c20 => ?_)
      · have hfin : (fa = -1 ∧ rdT tx = (-1, acc) ∧ T = mrg (tln tx acc) ∧ tsz T ≤ N) ∨ (0 ≤ fa ∧ fa ≤ 300 ∧ (rdT tx).1 = fa) := by
          rcases hst with z | z
          · refine Or.inl ⟨z.1, ?_, z.2.2.1, by omega⟩
            obtain ⟨d', rfl⟩ : ∃ d', d = d' + 1 := ⟨d - 1, by omega⟩
            rw [z.2.1, prs, if_pos (by omega)]
          · exact Or.inr z
        exact l41 _  (Nat.lt_succ_self _) hfin _ _ _ _ _ hS hx1 hh hL hed hLn (by omega) (by omega) (lv_sub hl [0, 1, 2] rfl)
      · refine lv_aload_n hx hb dX1_read_23 rfl (lv_at hl 0 rfl) ?_
        refine z_get cx (k0 := 5) hx1 rfl in_X1 (by decide) q677 rfl rfl dX1_read_24 ?_
        refine lv_iconst (v := iI (-1)) hx hb dX1_read_27 rfl ?_
        refine z_icmp_ne cx (tgt := 41) dX1_read_28 (by decide) (by omega) (fun c28 => ?_) (fun c28 => ?_)
        · have hfin : 0 ≤ fa ∧ fa ≤ 300 ∧ (rdT tx).1 = fa := by rcases hst with z | z; exact absurd z.1 c28; exact z
          exact l41 _  (Nat.lt_succ_self _) (Or.inr hfin) _ _ _ _ _ hS hx1 hh hL hed hLn (by omega) (by omega) (lv_sub hl [0, 1, 2] rfl)
        · have hst1 : rdT tx = prs tx d a acc ∧ T = mrg (tln tx acc) ∧ N < a + d ∧ a ≤ N ∧ tsz T ≤ a := by rcases hst with z | z; exact z.2; omega
          clear hst
          subst c28
          have hr3 := hr3 rfl
          have hr4 := hr4 rfl
          obtain ⟨hs1, hs2, hs3, hs4, hs5⟩ := hst1
          have haN : a < tx.length := by omega
          have hEr : a ≤ lnE tx a ∧ lnE tx a ≤ N := by rw [hN9]; exact nxt_le (cs := tx) (x := 10) (Nat.le_of_lt haN)
          have hTl2 := tsz_len T
          have ht1 := ht0.kept (hS.2.1 tp htl (by rintro (z | z); omega; exact htx z))
          have hgs := hS.1
          have hle := hed.le
          have hlr := hLn.1
          have hgg := gr_or cap
          obtain ⟨T2, hT2⟩ : ∃ T2, T2 = lnT tx a T := ⟨_, rfl⟩
          obtain ⟨G1, hG1⟩ : ∃ G1, G1 = (if cap < T2.length then gr cap else 0) := ⟨_, rfl⟩
          obtain ⟨C1, hC1⟩ : ∃ C1, C1 = (if cap < T2.length then gr cap else cap) := ⟨_, rfl⟩
          have hT2l : T2.length ≤ N + 2 := by
            rw [hT2, lnT]
            split
            · have := addL_len T (nmOf tx (a, lnK tx a, lnE tx a)) (vlOf tx (a, lnK tx a, lnE tx a)); omega
            · exact hTl
          have hG1b : 4 * cap + G1 ≤ 4 * C1 ∧ C1 ≤ 10 + 2 * (N + 2) := by rw [hG1, hC1]; clear hG1 hC1; split <;> omega
          clear hgg
          refine lv_aload_n hx hb dX1_read_31 rfl (lv_at hl 0 rfl) ?_
          refine lv_aload_n hx hb dX1_read_32 rfl (lv_at hl 1 rfl) ?_
          refine lv_iload_n hx hb dX1_read_33 rfl (lv_at hl 2 rfl) ?_
          refine z_callV cx (j := 2) (m_X1_line G l _ (fun q => H0.size ≤ q ∨ q < G.2.heap.size) x tp th rq wi h L ed cap a mz (-1) ti us tx pad rs T cs (hB.ofS hS hBA) ⟨hxb, by omega, by omega⟩ hx1 ht1 htc haN (fun r hr => Nat.le_trans hB9 (hrb r hr)) hnd hh hL hed hLn (fun q z => z.imp (Nat.le_trans hgs) id) (fun q z => by omega) ⟨by omega, by omega, fun t ht => by have := mem_tsz ht; omega, fun nm => by have := hdV_tsz T nm; omega⟩ (mc := 2 * (lnE tx a - a) + 25) (ms := 16 * (lnE tx a - a) + 300 + 4 * N + G1) (Nat.le_refl _) (by rw [hG1, hT2, hN9]; exact Nat.le_refl _)) (lw_V q734 q736 qs9 q32 q737) (zrecv cx hx1 rfl) (by decide +kernel) rfl (rest := []) rfl hl (Nat.le_of_ble_eq_true rfl) (by decide) (by omega) dX1_read_34 hS (fun q h => by rcases h with h | h | h; exact Or.inl (Nat.le_trans hS.1 h); rcases h with h | h | h; exact Or.inl (h ▸ hgL0); rcases hge with e | e; exact absurd h.1 (by rw [h.2, e]; exact Nat.not_le.mpr (e0_lt cx.kk.1)); exact Or.inl (h.2 ▸ e); exact Or.inl (hrb q h); exact Or.inr h) (fun v34 H locs hp34 hz9 hk9 hS => ?_)
          obtain ⟨rfl, d9, rs9, cs9, mz9, hx1, hh, hL, hed, hLn, hnd9, hdd, hrr⟩ := hp34
          rw [← hT2] at hed hLn
          rw [← hC1] at hed
          have hge9 : d9 = e0 G ∨ H0.size ≤ d9 := by rcases hdd with e | e; rw [e]; exact hge; exact Or.inr (Nat.le_trans hgs e)
          have hrb9 : ∀ r ∈ rs9, H0.size ≤ r := fun r hr => by rcases hrr r hr with e | e; exact hrb r e; exact Nat.le_trans hgs e
          clear hdd hrr
          by_cases hok : okl tx a = true
          · obtain ⟨o1, o2, o3, o4⟩ := okl_n hok haN
            rw [if_pos hok] at hx1
            have hTT : T2 = mrg (tln tx (acc ++ [(a, lnK tx a, lnE tx a)])) := by rw [hT2, hs2]; exact lnT_ok hok
            have hts : tsz T2 = tsz T + ((vlOf tx (a, lnK tx a, lnE tx a)).length + 1) := by rw [hT2, lnT, if_pos hok]; exact addL_tsz _ _ _
            have hpr9 : rdT tx = prs tx (d - 1) (lnE tx a + 1) (acc ++ [(a, lnK tx a, lnE tx a)]) := by
              obtain ⟨d', rfl⟩ : ∃ d', d = d' + 1 := ⟨d - 1, by omega⟩
              rw [hs1, prs, if_neg (by omega), if_pos hok]; rfl
            have hmul : C * (N - a) = C * (N - (lnE tx a + 1)) + C * (lnE tx a + 1 - a) := by rw [← Nat.mul_add]; congr 1; omega
            have hmul2 : 16 * (lnE tx a - a) + 300 + 4 * N ≤ C * (lnE tx a + 1 - a) := by
              obtain ⟨w, hw⟩ : ∃ w, lnE tx a + 1 - a = w + 3 := ⟨lnE tx a + 1 - a - 3, by omega⟩
              rw [hw, hC9, Nat.mul_add, Nat.add_mul]
              have : 0 ≤ 2 * N * w := Nat.zero_le _
              omega
            refine lv_istore_n (lv' := [(2, .int (iI ((lnE tx a + 1 : Nat) : Int))), (0, .ref x), (1, .ref h)]) hx hb dX1_read_37 rfl hl (by decide) rfl (fun ls hl => ?_)
            refine lv_goto (tgt := 15) hx hb dX1_read_38 (by decide) ?_
            exact ih_lp (lnE tx a + 1) (d - 1) d9 C1 (-1) mz9 (acc ++ [(a, lnK tx a, lnE tx a)]) rs9 T2 cs9 (by omega) (Or.inl ⟨rfl, hpr9, hTT, by omega, by omega, by omega⟩) (by omega) hG1b.2 hnd9 hrb9 hge9 hT2l _ _ _ _ _ hS hx1 hh hL hed hLn (by omega) (by omega) (fun _ => by omega) (fun _ => by omega) (lv_sub hl [1, 2, 0] rfl)
          · rw [if_neg hok] at hx1
            have hpr9 : (rdT tx).1 = (a : Int) := by
              obtain ⟨d', rfl⟩ : ∃ d', d = d' + 1 := ⟨d - 1, by omega⟩
              rw [hs1, prs, if_neg (by omega), if_neg hok]
            have hmul : C * (N - a) ≥ 16 * 0 := Nat.zero_le _
            refine lv_istore_n (lv' := [(2, .int (iI ((lnE tx a + 1 : Nat) : Int))), (0, .ref x), (1, .ref h)]) hx hb dX1_read_37 rfl hl (by decide) rfl (fun ls hl => ?_)
            refine lv_goto (tgt := 15) hx hb dX1_read_38 (by decide) ?_
            exact ih_lp (lnE tx a + 1) (d - 1) d9 C1 ↑a mz9 acc rs9 T2 cs9 (by omega) (Or.inr ⟨by omega, by omega, hpr9⟩) (by omega) hG1b.2 hnd9 hrb9 hge9 hT2l _ _ _ _ _ hS hx1 hh hL hed hLn (by omega) (by omega) (fun z => absurd z (by omega)) (fun z => absurd z (by omega)) (lv_sub hl [1, 2, 0] rfl)
  exact lp _ 0 (tx.length + 1) (e0 G) 0 (-1) 0 [] [] [] [] (Nat.lt_succ_self _) (Or.inl ⟨rfl, rfl, rfl, by omega, by omega, Nat.le_refl _⟩) (by omega) (by omega) List.nodup_nil (fun r hr => by cases hr) (Or.inl rfl) (Nat.zero_le _) _ _ _ _ _ hS hx1 hh hL (Or.inl ⟨rfl, rfl, rfl⟩) hLn (by omega) (by omega) (fun _ => by omega) (fun _ => by rw [hN9, Nat.sub_zero, ← hN9]; omega) (lv_sub hl [2, 1, 0] rfl)
