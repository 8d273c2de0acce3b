/-! ===== the component: use, valuesOf, isFor, theOne ===== -/
set_option maxHeartbeats 4000000 in
set_option maxRecDepth 100000 in
theorem m_X1_use (G : zE) (l : Launch) (H0 : Heap) (x t : Nat) (us : Int) (u0 u1 u2 u3 u4 u5 u6 y0 y1 y2 y3 y4 y5 y6 y7 y8 : Value) (hx0 : Ob G H0 x 0 [u0, u1, u2, u3, u4, u5, u6, .int (iI us)]) (ht0 : Ob G H0 t 4 [y0, y1, y2, y3, y4, y5, y6, y7, y8]) {mc ms : Nat}  : zV G l yX1_use (ws_ yX1_use cX1_use 2 (none)) 0 0 mc ms [.ref x, .ref t] H0 (fun H1 => Ob G H1 x 0 [u0, u1, u2, u3, u4, u5, u6, .int (iI (us + 1))] ∧ Ob G H1 t 4 [y0, y1, y2, y3, y4, y5, y6, y7, .int (iI (us + 1))]) (fun q => H0.size ≤ q ∨ q = x ∨ q = t) := by
  refine zV.start (cc := cX1_use) (by decide) (Nat.le_of_ble_eq_true rfl) ?_
  intro p e s m args below meth c Q cx hQ hmn ls hl
  have hx := cx.1
  have hb := cx.2.1
  have hS : va_S (fun q => H0.size ≤ q ∨ q = x ∨ q = t) H0 H0 [] := va_S.rf
  have hl : lv_has ls 2 [(0, .ref x), (1, .ref t)] := hl
  have hxt : x ≠ t := hx0.cl.ne ht0.cl cx.kk rfl
  refine lv_aload_n hx hb dX1_use_0 rfl (lv_at hl 0 rfl) ?_
  refine lv_dup hx hb dX1_use_1 rfl ?_
  refine z_get cx (k0 := 7) hx0 rfl in_X1 (by decide) q679 rfl rfl dX1_use_2 ?_
  refine lv_iconst (v := iI (1)) hx hb dX1_use_5 rfl ?_
  refine z_iadd cx (z := us + 1) dX1_use_6 (by omega) ?_
  refine z_put cx (k0 := 7) (vs' := [u0, u1, u2, u3, u4, u5, u6, .int (iI (us + 1))]) hx0 (Or.inr (Or.inl rfl)) hS rfl in_X1 tyX1_ok nmX1 (by decide) q679 rfl rfl  rfl (Nat.le_of_ble_eq_true rfl) ⟨rfl, rfl⟩ dX1_use_7 (fun H locs hx0 hz9 hq9 hS => ?_)
  have ht0 := ht0.kept (hq9 _ (Ne.symm hxt))
  refine lv_aload_n hx hb dX1_use_10 rfl (lv_at hl 1 rfl) ?_
  refine lv_aload_n hx hb dX1_use_11 rfl (lv_at hl 0 rfl) ?_
  refine z_get cx (k0 := 7) hx0 rfl in_X1 (by decide) q679 rfl rfl dX1_use_12 ?_
  refine z_putN cx (k0 := 8) (vs' := [y0, y1, y2, y3, y4, y5, y6, y7, .int (iI (us + 1))]) ht0 (Or.inr (Or.inr rfl)) hS rfl in_X7 tyX7_ok nmX7 (by decide) q906 rfl rfl  rfl (Nat.le_of_ble_eq_true rfl) ⟨rfl, rfl⟩ dX1_use_15 (fun H locs ht0 hz9 hq9 hS => ?_)
  have hx0 := hx0.kept (hq9 _ hxt)
  exact z_vret cx hQ rfl (⟨hx0, ht0⟩) hS (by omega) dX1_use_18
set_option maxHeartbeats 4000000 in
set_option maxRecDepth 100000 in
theorem m_X1_valuesOf (G : zE) (l : Launch) (H0 : Heap) (P P' : Nat → Prop) (x h y : Nat) (u0 u1 u3 u4 u5 u6 u7 : Value) (rs : List Nat) (T : Txt) (cs : List Bool) (vs : List (List Int)) (hB : Bh G H0) (hxb : G.2.heap.size ≤ x) (hx0 : Ob G H0 x 0 [u0, u1, .ref h, u3, u4, u5, u6, u7]) (hHR : HR G P H0 h rs T cs) (hnd : rs.Nodup) (hrb : ∀ r ∈ rs, G.2.heap.size ≤ r) (hPn : ∀ q, (H0.size ≤ q ∨ q < G.2.heap.size) → P q) (hPr : ∀ q, P q → q ∉ rs) (hPr' : ∀ q, P' q → q ∉ rs) (hn : T.length ≤ 30000 ∧ vs.length ≤ 10000) (hvl : ∀ t ∈ T, t.2.length ≤ 3000) (hy : LSt G P' H0 y vs) {mc ms : Nat} (hmc : uC cs T + vs.length + 2 ≤ uC (csV T cs vs) T + mc) (hms : uS cs T + 8 * vs.length + 50 ≤ uS (csV T cs vs) T + ms) : zR G l yX1_valuesOf (ws_ yX1_valuesOf cX1_valuesOf 4 (some (FieldType.object "java/util/ArrayList"))) 14 319 mc ms [.ref x, .ref y] H0 (fun r H1 => ∃ d : Nat, r = .ref d ∧ H0.size ≤ d ∧ LSt G P H1 d (vs.map (fun v => lsO (hdV T v))) ∧ HR G P H1 h rs T (csV T cs vs)) (fun q => H0.size ≤ q ∨ q ∈ rs) := by
  refine zR.start (cc := cX1_valuesOf) (by decide) (Nat.le_of_ble_eq_true rfl) ?_
  intro p e s m args below meth c Q cx hQ hmn ls hl
  have hx := cx.1
  have hb := cx.2.1
  have hS : va_S (fun q => H0.size ≤ q ∨ q ∈ rs) H0 H0 [] := va_S.rf
  have hl : lv_has ls 4 [(0, .ref x), (1, .ref y)] := hl
  have hB9 := hB.1
  have hBA : ∀ q, (H0.size ≤ q ∨ q ∈ rs) → G.2.heap.size ≤ q := fun q z => by rcases z with z | z; omega; exact hrb q z
  have hcl := hHR.rcl
  have hxr : x ∉ rs := fun z => (hcl x z).ne hx0.cl cx.kk rfl rfl
  have hrl : ∀ r ∈ rs, r < H0.size := fun r hr => (hcl r hr).lt
  have hln0 := hHR.len
  obtain ⟨hvl1, hvl2, -⟩ := csV_le vs cs hln0.2
  have hxl := hx0.lt
  have hy := hy.kp (P' := fun q => P' q ∧ q < H0.size) cx.kk.1 (Kp.weak (fun q h1 h2 => ⟨h2, h1⟩))
  have hHR := hHR.kp (P' := fun q => P q ∧ q < H0.size) cx.kk.1 (Kp.weak (fun q h1 h2 => ⟨h2, h1⟩)) (fun _ _ => rfl)
  refine z_new cx (ci := 8) (vs := [.int (iI 0), .null, .int (iI 0)]) hS rfl in_J2 tyJ2_ok q72 q73 q35 (zdefJ2) (by omega) dX1_valuesOf_0 (fun L H hL hgL AL hz9 hE9 hS => ?_)
  have hx0 := hx0.ext hE9
  refine lv_dup hx hb dX1_valuesOf_3 rfl ?_
  have hHR := hHR.ext cx.kk.1 hE9
  have hy := hy.ext cx.kk.1 hE9
  have hx8 := hx0
  refine z_callI cx (j := 0) (m_J2_init G l _ L (.int (iI 0)) .null (.int (iI 0)) (hB.ofS hS hBA) (by omega) AL (mc := 0) (ms := 0)) (lw_meth q76) q35 q74 q75 rfl (by decide +kernel) rfl (rest := [.ref L]) rfl hl (Nat.le_of_ble_eq_true rfl) (by decide) (by omega) dX1_valuesOf_4 hS (fun q h => by rcases h with h | h; exact Or.inl (Nat.le_trans hS.1 h); exact Or.inl (by omega)) (fun H locs hp4 hz9 hk9 hS => ?_)
  have hL := hp4
  have kq : ∀ q : Nat, q < H0.size → H[q]? = _ := fun q hq => hk9 q (by have := hx8.lt; omega) (by rintro (z | z) <;> omega)
  have hx0 := hx8.kept (kq x hxl)
  have hLr : L ∉ rs := fun z => by have := hrl L z; omega
  have hy := hy.kp (P' := fun q => P' q ∧ q < H0.size) cx.kk.1 (fun q h1 h2 => ⟨h2, kq q h2.2⟩)
  have hHR := hHR.kp (P' := PL G P L (e0 G)) cx.kk.1 (fun q h1 h2 => ⟨⟨h2.1, by omega, fun hb => absurd (e0_lt cx.kk.1) (Nat.not_lt.mpr hb)⟩, kq q h2.2⟩) (fun r hr => kq r (hrl r hr))
  have hlb : LB G P H L (e0 G) [] [] := LB.nil
  have hed9 : EDok G H (e0 G) [] 0 := Or.inl ⟨rfl, rfl, rfl⟩
  refine lv_astore_n (lv' := [(2, .ref L), (0, .ref x), (1, .ref y)]) hx hb dX1_valuesOf_7 rfl hl (by decide) rfl (fun ls hl => ?_)
  refine lv_iconst (v := iI (0)) hx hb dX1_valuesOf_8 rfl ?_
  refine lv_istore_n (lv' := [(3, .int (iI 0)), (2, .ref L), (0, .ref x), (1, .ref y)]) hx hb dX1_valuesOf_9 rfl hl (by decide) rfl (fun ls hl => ?_)
  have lp : ∀ (fuel : Nat) (j ed cap : Nat) (mz : Int) (ss : List Nat) (fl : List Bool), (vs.length - j) < fuel → (j ≤ vs.length) → (fl = csV T cs (vs.take j)) → (ss.length = j) → (cap ≤ 10 + 2 * j) → (ed = e0 G ∨ H0.size ≤ ed) → ∀ (H : Heap) (locs : List Loc) (ls : Array Slot) (k n : Nat), va_S (fun q => H0.size ≤ q ∨ q ∈ rs) H0 H locs → Ob G H x 0 [u0, u1, .ref h, u3, u4, u5, u6, u7] → Ob G H L 8 [.int (iI mz), .ref ed, .int (iI ↑ss.length)] → EDok G H ed ss cap → (LB G P H L ed ss ((vs.take j).map (fun v => lsO (hdV T v)))) → (HR G (PL G P L ed) H h rs T fl) → (LSt G (fun q => P' q ∧ q < H0.size) H y vs) → (k + uC fl T ≤ 1 + uC cs T + j) → (n + uS fl T ≤ 3 + uS cs T + 4 * cap) → lv_has ls 4 [(0, .ref x), (1, .ref y), (2, .ref L), (3, .int (iI ↑j))] → W p l e ⟨14, mc, ms, 319⟩ s m args below meth c H locs k n Q (F0 m 10 ls []) := by
    intro fuel
    induction fuel with
    | zero => intro j ed cap mz ss fl hf9; exact absurd hf9 (Nat.not_lt_zero _)
    | succ fuel ih_lp =>
      intro j ed cap mz ss fl hf9 hj hfl hrl9 hcp hge H locs ls k n hS hx0 hL hed hlb hHR hy hr1 hr2 hl
      have hgs7 := hS.1
      have hlf := hHR.len
      have hve2 : fLe T fl (csV T cs vs) := by
        have := csV_le (vs.drop j) fl hlf.2
        rw [hfl, csV, csV, ← List.foldl_append, List.take_append_drop] at this
        rw [hfl]; exact this
      obtain ⟨hve3, hve4, -⟩ := hve2
      obtain ⟨ey, rsy, capy, my, hPy, hy1, hy2, hyp, hy9, hst⟩ := id hy
      refine lv_iload_n hx hb dX1_valuesOf_10 rfl (lv_at hl 3 rfl) ?_
      refine lv_aload_n hx hb dX1_valuesOf_11 rfl (lv_at hl 1 rfl) ?_
      refine z_callV cx (j := 0) (m_J2_size G l _ y (rsy.length : Int) (.int (iI my)) (.ref ey) hy1 (mc := 0) (ms := 0)) (lw_V q710 q546 q547 q35 q548) (zrecv cx hy1 rfl) (by decide +kernel) rfl (rest := [.int (iI ↑j)]) rfl hl (Nat.le_of_ble_eq_true rfl) (by decide) (by omega) dX1_valuesOf_12 hS (fun q h => Or.inl (Nat.le_trans hS.1 h)) (fun v12 H locs hp12 hz9 hk9 hS => ?_)
      have hE9 := Ext.of hz9 hk9 (fun q h => h)
      have hx0 := hx0.ext hE9
      have hL := hL.ext hE9
      have hed := hed.ext hE9
      have hy1 := hy1.ext hE9
      subst hp12
      have hlb := hlb.ext hE9
      have hHR := hHR.ext cx.kk.1 hE9
      have hy := hy.ext cx.kk.1 hE9
      have hy2 := hy2.ext hE9
      have hst := fun (i r : Nat) (z : List Int) (h1 : rsy[i]? = some r) (h2 : vs[i]? = some z) => (hst i r z h1 h2).ext hE9
      refine z_icmp_ge cx (tgt := 44) dX1_valuesOf_15 (by decide) (by omega) (fun c15 => ?_) (fun c15 => ?_)
      · have e1 : vs.take j = vs := List.take_of_length_le (by omega)
        rw [e1] at hlb hfl
        rw [hfl] at hHR
        refine lv_aload_n hx hb dX1_valuesOf_44 rfl (lv_at hl 2 rfl) ?_
        exact z_aret cx hQ rfl (Or.inl ⟨_, rfl⟩) (⟨L, rfl, hgL, hlb.fin (hPn L (Or.inl hgL)) (hge.imp id (fun z => hPn ed (Or.inl z))) hL hed (by omega), hHR.weak cx.kk.1 (fun q z => z.1)⟩) hS (by omega) dX1_valuesOf_45
      · obtain ⟨x9, hx9⟩ : ∃ x, vs[j]? = some x := ⟨_, List.getElem?_eq_getElem (by omega)⟩
        obtain ⟨w9, hw9⟩ : ∃ w, rsy[j]? = some w := ⟨_, List.getElem?_eq_getElem (by omega)⟩
        have hgd9 : rsy.getD j 0 = w9 := by rw [List.getD_eq_getElem?_getD, hw9]; rfl
        have htk : vs.take (j + 1) = vs.take j ++ [x9] := by
          obtain ⟨g1, g2⟩ := List.getElem?_eq_some_iff.mp hx9
          rw [List.take_succ_eq_append_getElem g1, g2]
        have hstx := hst j w9 x9 hw9 hx9
        obtain ⟨Lh, eh, ch, mh, hPh, hPL, hPe, hh, hhL, hhe, hhc, hhN⟩ := id hHR
        refine lv_aload_n hx hb dX1_valuesOf_18 rfl (lv_at hl 2 rfl) ?_
        refine lv_aload_n hx hb dX1_valuesOf_19 rfl (lv_at hl 0 rfl) ?_
        refine z_get cx (k0 := 2) hx0 rfl in_X1 (by decide) q674 rfl rfl dX1_valuesOf_20 ?_
        refine lv_aload_n hx hb dX1_valuesOf_23 rfl (lv_at hl 1 rfl) ?_
        refine lv_iload_n hx hb dX1_valuesOf_24 rfl (lv_at hl 3 rfl) ?_
        refine z_callV cx (j := 1) (m_J2_get G l _ y ey j capy rsy (.int (iI my)) hy1 hy2 ⟨by omega, by omega⟩ (mc := 0) (ms := 0)) (lw_V q711 q550 q551 q35 q552) (zrecv cx hy1 rfl) (by decide +kernel) rfl (rest := [.ref h, .ref L]) rfl hl (Nat.le_of_ble_eq_true rfl) (by decide) (by omega) dX1_valuesOf_25 hS (fun q h => Or.inl (Nat.le_trans hS.1 h)) (fun v25 H locs hp25 hz9 hk9 hS => ?_)
        have hE9 := Ext.of hz9 hk9 (fun q h => h)
        have hx0 := hx0.ext hE9
        have hL := hL.ext hE9
        have hed := hed.ext hE9
        have hy1 := hy1.ext hE9
        have hh := hh.ext hE9
        subst hp25
        have hlb := hlb.ext hE9
        have hHR := hHR.ext cx.kk.1 hE9
        have hy := hy.ext cx.kk.1 hE9
        have hhL := hhL.ext hE9
        have hhe := hhe.ext hE9
        have hhN := hhN.ext hE9
        have hstx := hstx.ext hE9
        rw [hgd9]
        have hstx8 := hstx
        obtain ⟨-, -, -, b8, -, hs8, -⟩ := hstx8
        refine va_castE hx hb cx.wn (cx.ts _ q808) (zrecvS cx hs8) dX1_valuesOf_28 ?_
        have hxx := hx0
        have hL8 := hL
        have hed8 := hed
        have hh8 := hh
        have hgs6 := hS.1
        have hlF := fLe.ls x9 hlf.2
        obtain ⟨z9, hz10⟩ : ∃ z, z = H.size := ⟨_, rfl⟩
        have hfl2 : lsF T fl x9 = csV T cs (vs.take (j + 1)) := by rw [htk, hfl, csV, csV, List.foldl_append]; rfl
        have hlF2 : fLe T (lsF T fl x9) (csV T cs vs) := by
          have := csV_le (vs.drop (j + 1)) (lsF T fl x9) hlF.2.2
          rw [hfl2, csV, csV, ← List.foldl_append, List.take_append_drop] at this
          rw [hfl2]; exact this
        have hLl := hL.lt
        have hdl := hed.edlt cx.kk.1
        obtain ⟨a1, a2, -⟩ := hlF
        obtain ⟨b1, b2, -⟩ := hlF2
        refine z_callV cx (j := 1) (m_X2_listed G l _ (PL G P L ed) _ h Lh eh ch w9 (.int (iI mh)) rs T fl x9 (hB.ofS hS hBA) hh hhL hhe hhN hn.1 hstx hnd hrb (fun q z => hPr q z.1) hvl (mc := uC fl T - uC (lsF T fl x9) T) (ms := uS fl T - uS (lsF T fl x9) T) (by omega) (by omega)) (lw_V q809 q810 q811 q36 q812) (zrecv cx hh rfl) (by decide +kernel) rfl (rest := [.ref L]) rfl hl (Nat.le_of_ble_eq_true rfl) (by decide) (by omega) dX1_valuesOf_31 hS (fun q h => by rcases h with h | h; exact Or.inl (Nat.le_trans hS.1 h); exact Or.inr h) (fun v31 H locs hp31 hz9 hk9 hS => ?_)
        obtain ⟨d9, rfl, hd9, hhN⟩ := hp31
        have her : G.2.heap.size ≤ ed → ed ∉ rs := fun hb z => by have := hrl ed z; have := e0_lt cx.kk.1; rcases hge with e | e <;> omega
        have kp1 : Kp (PL G P L ed) _ (PL G P L ed) H := fun q h1 h2 => ⟨h2, hk9 q h1 (by rintro (z | z); exact absurd h1 (Nat.not_lt.mpr z); exact hPr q h2.1 z)⟩
        have hnew : ∀ q, (H0.size ≤ q ∧ q ≠ L ∧ q ≠ ed) ∨ q < G.2.heap.size → PL G P L ed q := fun q z => by
          rcases z with z | z
          · exact ⟨hPn q (Or.inl z.1), z.2.1, fun _ => z.2.2⟩
          · exact ⟨hPn q (Or.inr z), by omega, fun hb => by omega⟩
        have hx0 := hxx.kept (hk9 x hxx.lt (by rintro (z | z); exact absurd hxx.lt (Nat.not_lt.mpr z); exact hxr z))
        have hL := hL8.kept (hk9 L hL8.lt (by rintro (z | z); exact absurd hL8.lt (Nat.not_lt.mpr z); exact hLr z))
        have hed := hed8.kept (fun hl hb => hk9 ed hl (by rintro (z | z); exact absurd hl (Nat.not_lt.mpr z); exact her hb z))
        have hneL : ∀ q : Nat, z9 ≤ q → PL G P L ed q := fun q z => hnew q (Or.inl ⟨by omega, by omega, fun e => by
          by_cases hb : G.2.heap.size ≤ ed
          · have := hdl hb; omega
          · omega⟩)
        have hHR := HR.mk' cx.kk.1 hPh hPL hPe hh8 hhL hhe hhc kp1 (hhN.kp (Q' := PL G P L ed) (Kp.weak (fun q _ z => z.elim id (fun z => hneL q (by have z : _ ≤ q := z; omega)))) (fun _ _ => rfl))
        have hlb : LB G P H L ed ss ((vs.take j).map (fun v => lsO (hdV T v))) := ⟨hlb.1, fun i r z h1 h2 => (hlb.2 i r z h1 h2).kp kp1⟩
        have hy := hy.kp (P' := fun q => P' q ∧ q < H0.size) cx.kk.1 (fun q h1 h2 => ⟨h2, hk9 q h1 (by rintro (z | z); exact absurd h1 (Nat.not_lt.mpr z); exact hPr' q h2.1 z)⟩)
        have hd9 := hd9.kp (P' := PL G P L ed) (Kp.weak (fun q _ z => by
          rcases z with z | z | z
          · exact z
          · exact hneL q (by have z : _ ≤ q := z; omega)
          · exact hnew q (Or.inr z)))
        have hgs5 := hS.1
        have hxx := hx0
        have hL2 := hL.lt
        have hle9 := hed.le
        have hdl2 := hed.edlt cx.kk.1
        have hif1 : (ss.length = cap ∧ (if ss.length = cap then gr cap else 0) = gr cap) ∨ (¬ ss.length = cap ∧ (if ss.length = cap then gr cap else 0) = 0) := by split <;> omega
        have hif2 : (ss.length = cap ∧ (if ss.length = cap then gr cap else cap) = gr cap) ∨ (¬ ss.length = cap ∧ (if ss.length = cap then gr cap else cap) = cap) := by split <;> omega
        have hgo := gr_or cap
        obtain ⟨G1, hG1⟩ : ∃ G1, G1 = (if ss.length = cap then gr cap else 0) := ⟨_, rfl⟩
        obtain ⟨G2, hG2⟩ : ∃ G2, G2 = (if ss.length = cap then gr cap else cap) := ⟨_, rfl⟩
        have hGG : G1 + 4 * cap ≤ 4 * G2 ∧ G2 ≤ 10 + 2 * (j + 1) ∧ G1 ≤ 4 * G2 := by omega
        clear hif1 hif2 hgo
        have hxL : x ≠ L := by omega
        have hxe : ed ≠ x := hed.ne cx.kk hx0.cl hxb rfl
        refine z_callV cx (j := 1) (m_J2_add G l _ L ed cap d9 mz ss (hB.ofS hS hBA) (by omega) hL hed hlb.el (El.st hd9) (by omega) (mc := 1) (ms := G1) (by split <;> omega) (by rw [hG1]; exact Nat.le_refl _)) (lw_V q498 q499 q500 q35 q501) (zrecv cx hL rfl) (by decide +kernel) rfl (rest := []) rfl hl (Nat.le_of_ble_eq_true rfl) (by decide) (by omega) dX1_valuesOf_34 hS (fun q h => by rcases h with h | h | h; exact Or.inl (Nat.le_trans hS.1 h); exact Or.inl (by omega); rcases hge with e | e; exact absurd h.1 (by rw [h.2, e]; exact Nat.not_le.mpr (e0_lt cx.kk.1)); exact Or.inl (h.2 ▸ e)) (fun v34 H locs hp34 hz9 hk9 hS => ?_)
        obtain ⟨rfl, d, hd, hL, hed⟩ := hp34
        rw [← hG2] at hed
        have hd0 : d = ed ∨ H0.size ≤ d := by rcases hd with e | e; exact Or.inl e.1; exact Or.inr (by omega)
        have hlb := hlb.add hL2 hd9 hk9 hd
        have hx0 := hxx.kept (kq_ne hk9 hxx.lt hxL (fun _ => hxe.symm))
        have kp2 : Kp (PL G P L ed) _ (PL G P L d) H := fun q h1 h2 => ⟨⟨h2.1, h2.2.1, fun hb e => by
          rcases hd with g | g
          · exact h2.2.2 (by rw [← g.1]; exact hb) (e.trans g.1)
          · omega⟩, kq_ne hk9 h1 h2.2.1 (fun hb e => h2.2.2 (e ▸ hb) e)⟩
        have hHR := hHR.kp cx.kk.1 kp2 (fun r hr => kq_ne hk9 (by have := hrl r hr; omega) (fun e => hLr (e ▸ hr)) (fun hb e => her (e ▸ hb) (e ▸ hr)))
        have hy := hy.kp (P' := fun q => P' q ∧ q < H0.size) cx.kk.1 (fun q h1 h2 => ⟨h2, kq_ne hk9 h1 (by have := h2.2; omega) (fun hb e => by have := h2.2; rcases hge with g | g; have := e0_lt cx.kk.1; omega; omega)⟩)
        have e4 : ss.length + 1 = (ss ++ [d9]).length := by rw [List.length_append, List.length_singleton]
        rw [e4] at hL
        rw [show (vs.take j).map (fun v => lsO (hdV T v)) ++ [lsO (hdV T x9)] = (vs.take (j + 1)).map (fun v => lsO (hdV T v)) by rw [htk, List.map_append]; rfl] at hlb
        clear hG1 hG2 hdl hdl2 hd her hxe hxL
        have hj1 : j < vs.length := by clear hd0 hge; omega
        refine lv_pop hx hb dX1_valuesOf_37 rfl ?_
        refine z_iinc cx (j := 3) (z := ((j + 1 : Nat) : Int)) (lv' := [(3, .int (iI ((j + 1 : Nat) : Int))), (0, .ref x), (1, .ref y), (2, .ref L)]) dX1_valuesOf_38 hl rfl (by omega) (by decide) rfl (fun ls hl => ?_)
        refine lv_goto (tgt := 10) hx hb dX1_valuesOf_41 (by decide) ?_
        exact ih_lp (j + 1) d G2 (mz + 1) (ss ++ [d9]) (lsF T fl x9) (by omega) (by omega) hfl2 (by rw [← e4]; omega) hGG.2.1 (by rcases hd0 with e | e; rw [e]; exact hge; exact Or.inr e) _ _ _ _ _ hS hx0 hL hed hlb hHR hy (by omega) (by omega) (lv_sub hl [1, 2, 3, 0] rfl)
  exact lp _ 0 (e0 G) 0 0 [] cs (Nat.lt_succ_self _) (by omega) rfl rfl (by omega) (Or.inl rfl) _ _ _ _ _ hS hx0 hL hed9 hlb hHR hy (by omega) (by omega) (lv_sub hl [2, 3, 1, 0] rfl)
