/-! ===== the JDK: the builder's ends ===== -/
set_option maxHeartbeats 4000000 in
set_option maxRecDepth 100000 in
theorem m_J3_init (G : zE) (l : Launch) (H0 : Heap) (a n : Nat) (u2 u3 : Value) (hB : Bh G H0) (hab : G.2.heap.size ≤ a) (h : Ob G H0 a 9 [.null, .int (iI 0), u2, u3]) (hn : n ≤ 40000) {mc ms : Nat} (hmc : 1 ≤ mc) (hms : n ≤ ms) : zV G l yJ3_init (ws_ yJ3_init cJ3_init 2 (none)) 1 20 mc ms [.ref a, .int (iI ↑n)] H0 (fun H1 => ∃ d : Nat, H0.size ≤ d ∧ Ob G H1 a 9 [.ref d, .int (iI 0), u2, u3] ∧ Ai G H1 d 100 (List.replicate n 0)) (fun q => H0.size ≤ q ∨ q = a) := by
  refine zV.start (cc := cJ3_init) (by decide) (Nat.le_of_ble_eq_true rfl) ?_
  intro p e s m args below meth c Q cx hQ hmn ls hl
  have hx := cx.1
  have hb := cx.2.1
  have hS : va_S (fun q => H0.size ≤ q ∨ q = a) H0 H0 [] := va_S.rf
  have hl : lv_has ls 2 [(0, .ref a), (1, .int (iI ↑n))] := hl
  have hBA : ∀ q, (H0.size ≤ q ∨ q = a) → G.2.heap.size ≤ q := fun q z => by rcases z with z | z; exact Nat.le_trans hB.1 z; omega
  have hal := h.lt
  refine lv_aload_n hx hb dJ3_init_0 rfl (lv_at hl 0 rfl) ?_
  refine z_obj cx q133 q70 q71 hl (Nat.le_of_ble_eq_true rfl) (by decide) dJ3_init_1 ?_
  refine z_gets cx (st_cs cx.kk) hB q134 dJ3_init_4 ?_
  refine z_if_eq cx (tgt := 25) dJ3_init_7 (by decide) (by omega) (fun c7 => (by exfalso; omega)) (fun c7 => ?_)
  refine lv_aload_n hx hb dJ3_init_10 rfl (lv_at hl 0 rfl) ?_
  refine lv_iload_n hx hb dJ3_init_11 rfl (lv_at hl 1 rfl) ?_
  refine z_newB cx hS q101 (n) (by omega) (by omega) dJ3_init_12 (fun d H hd hgd Ad hz9 hE9 hS => ?_)
  have h := h.ext hE9
  have hda : d ≠ a := by omega
  refine z_put cx (k0 := 0) (vs' := [.ref d, .int (iI 0), u2, u3]) h (Or.inr rfl) hS rfl in_J4 tyJ4_ok nmJ4 (by decide) q143 rfl rfl  rfl (Nat.le_of_ble_eq_true rfl) ⟨rfl, rfl⟩ dJ3_init_14 (fun H locs h hz9 hq9 hS => ?_)
  have Ad := Ad.kept (hq9 _ hda)
  refine lv_aload_n hx hb dJ3_init_17 rfl (lv_at hl 0 rfl) ?_
  refine lv_iconst (v := iI (0)) hx hb dJ3_init_18 rfl ?_
  refine z_put cx (k0 := 1) (vs' := [.ref d, .int (iI 0), u2, u3]) h (Or.inr rfl) hS rfl in_J4 tyJ4_ok nmJ4 (by decide) q144 rfl rfl  rfl (Nat.le_of_ble_eq_true rfl) ⟨rfl, rfl⟩ dJ3_init_19 (fun H locs h hz9 hq9 hS => ?_)
  have Ad := Ad.kept (hq9 _ hda)
  refine lv_goto (tgt := 38) hx hb dJ3_init_22 (by decide) ?_
  exact z_vret cx hQ rfl (⟨d, hgd, h, Ad⟩) hS (by omega) dJ3_init_38
set_option maxHeartbeats 4000000 in
set_option maxRecDepth 100000 in
theorem m_J4_init (G : zE) (l : Launch) (H0 : Heap) (a : Nat) (u2 u3 : Value) (hB : Bh G H0) (hab : G.2.heap.size ≤ a) (h : Ob G H0 a 9 [.null, .int (iI 0), u2, u3]) {mc ms : Nat} (hmc : 1 ≤ mc) (hms : 16 ≤ ms) : zV G l yJ4_init (ws_ yJ4_init cJ4_init 1 (none)) 2 41 mc ms [.ref a] H0 (fun H1 => ∃ d : Nat, H0.size ≤ d ∧ Ob G H1 a 9 [.ref d, .int (iI 0), u2, u3] ∧ Ai G H1 d 100 (List.replicate 16 0)) (fun q => H0.size ≤ q ∨ q = a) := by
  refine zV.start (cc := cJ4_init) (by decide) (Nat.le_of_ble_eq_true rfl) ?_
  intro p e s m args below meth c Q cx hQ hmn ls hl
  have hx := cx.1
  have hb := cx.2.1
  have hS : va_S (fun q => H0.size ≤ q ∨ q = a) H0 H0 [] := va_S.rf
  have hl : lv_has ls 1 [(0, .ref a)] := hl
  refine lv_aload_n hx hb dJ4_init_0 rfl (lv_at hl 0 rfl) ?_
  refine lv_bipush (v := iI (16)) hx hb dJ4_init_1 (by decide) ?_
  refine z_callI cx (j := 1) (m_J3_init G l _ a 16 u2 u3 hB hab h (by omega) (mc := 1) (ms := 16) (Nat.le_refl _) (Nat.le_refl _)) (lw_meth q132) q38 q130 q131 rfl (by decide +kernel) rfl (rest := []) rfl hl (Nat.le_of_ble_eq_true rfl) (by decide) (by omega) dJ4_init_3 hS (fun q h => by rcases h with h | h; exact Or.inl (Nat.le_trans hS.1 h); exact Or.inr h) (fun H locs hp3 hz9 hk9 hS => ?_)
  obtain ⟨d, hgd, h, Ad⟩ := hp3
  exact z_vret cx hQ rfl (⟨d, hgd, h, Ad⟩) hS (by omega) dJ4_init_6
set_option maxHeartbeats 4000000 in
set_option maxRecDepth 100000 in
theorem m_J3_append (G : zE) (l : Launch) (H0 : Heap) (a b r : Nat) (xs : List Int) (u2 : Value) (c0 : Int) (hB : Bh G H0) (hab : G.2.heap.size ≤ a ∧ G.2.heap.size ≤ b) (h : Ob G H0 a 9 [.ref b, .int (iI 0), u2, .int (iI (xs.length : Int))]) (h2 : Ai G H0 b 100 (xs ++ List.replicate r 0)) (hch : chs xs) (hc : 0 ≤ c0 ∧ c0 < 128) (hn : xs.length + r ≤ 40000) {mc ms : Nat} (hmc : (if r = 0 then 1 else 0) ≤ mc) (hms : (if r = 0 then 2 * xs.length + 2 else 0) ≤ ms) : zR G l yJ3_append (ws_ yJ3_append cJ3_append 2 (some (FieldType.object "java/lang/AbstractStringBuilder"))) 4 104 mc ms [.ref a, .int (iI c0)] H0 (fun r9 H1 => r9 = .ref a ∧ ∃ d : Nat, ((d = b ∧ ¬ r = 0) ∨ H0.size ≤ d) ∧ Ob G H1 a 9 [.ref d, .int (iI 0), u2, .int (iI ((xs.length + 1 : Nat) : Int))] ∧ Ai G H1 d 100 ((xs ++ [c0]) ++ List.replicate (if r = 0 then xs.length + 1 else r - 1) 0)) (fun q => H0.size ≤ q ∨ q = a ∨ q = b) := by
  refine zR.start (cc := cJ3_append) (by decide) (Nat.le_of_ble_eq_true rfl) ?_
  intro p e s m args below meth c Q cx hQ hmn ls hl
  have hx := cx.1
  have hb := cx.2.1
  have hS : va_S (fun q => H0.size ≤ q ∨ q = a ∨ q = b) H0 H0 [] := va_S.rf
  have hl : lv_has ls 2 [(0, .ref a), (1, .int (iI c0))] := hl
  have hBA : ∀ q, (H0.size ≤ q ∨ q = a ∨ q = b) → G.2.heap.size ≤ q := fun q z => by rcases z with z | z | z; exact Nat.le_trans hB.1 z; omega; omega
  have hL : (xs ++ List.replicate r (0 : Int)).length = xs.length + r := by rw [List.length_append, List.length_replicate]
  have hch2 : chs (xs ++ List.replicate r 0) := chs_app hch (fun c hc => by rw [List.eq_of_mem_replicate hc]; omega)
  refine lv_aload_n hx hb dJ3_append_0 rfl (lv_at hl 0 rfl) ?_
  refine lv_aload_n hx hb dJ3_append_1 rfl (lv_at hl 0 rfl) ?_
  refine z_get cx (k0 := 3) h rfl in_J4 (by decide) q146 rfl rfl dJ3_append_2 ?_
  refine lv_iconst (v := iI (1)) hx hb dJ3_append_5 rfl ?_
  refine z_iadd cx (z := ((xs.length + 1 : Nat) : Int)) dJ3_append_6 (by omega) ?_
  refine z_callPv cx (j := 1) (m_J3_ensureCapacityInternal G l _ a b (xs.length + 1) (xs ++ List.replicate r 0) u2 (.int (iI (xs.length : Int))) hB hab.1 h h2 hch2 (by rw [hL]; omega) (mc := if r = 0 then 1 else 0) (ms := if r = 0 then 2 * xs.length + 2 else 0) (by rw [hL]; split <;> split <;> omega) (by rw [hL]; split <;> split <;> omega)) (lw_meth q213) q38 q210 q212 q1408 q211 (zrecvP cx h rfl) (by decide +kernel) rfl (rest := []) rfl hl (Nat.le_of_ble_eq_true rfl) (by decide) (by omega) dJ3_append_7 hS (fun q h => by rcases h with h | h; exact Or.inl (Nat.le_trans hS.1 h); exact Or.inr (Or.inl h)) (fun H locs hp7 hz9 hk9 hS => ?_)
  obtain ⟨d, h, Ad, hd⟩ := hp7
  rw [hL] at Ad hd
  have hw : (xs ++ List.replicate r (0 : Int)) ++ List.replicate (if xs.length + 1 ≤ xs.length + r then 0 else max (xs.length + 1) (2 * (xs.length + r) + 2) - (xs.length + r)) 0 = xs ++ List.replicate ((if r = 0 then xs.length + 1 else r - 1) + 1) 0 := by
    rw [List.append_assoc, List.replicate_append_replicate]
    congr 2
    by_cases e : r = 0
    · rw [if_neg (by omega), if_pos e]; omega
    · rw [if_pos (by omega), if_neg e]; omega
  rw [hw] at Ad
  have hda : d ≠ a := Ad.cl.ne h.cl cx.kk rfl
  have hdA : H0.size ≤ d ∨ d = a ∨ d = b := by rcases hd with z | z; exact Or.inr (Or.inr z.1); exact Or.inl z
  have hl9 : (xs ++ List.replicate ((if r = 0 then xs.length + 1 else r - 1) + 1) (0 : Int)).length = xs.length + (if r = 0 then xs.length + 1 else r - 1) + 1 := by rw [List.length_append, List.length_replicate]; omega
  refine lv_aload_n hx hb dJ3_append_10 rfl (lv_at hl 0 rfl) ?_
  refine z_callU cx (j := 0) (m_J3_isLatin1 G l _ a (.ref d) u2 (.int (iI (xs.length : Int))) (hB.ofS hS hBA) h (mc := 0) (ms := 0)) (lw_U q245 q247 q248 q246 q38 q249) rfl (zrecv cx h rfl) (by decide +kernel) rfl (rest := []) rfl hl (Nat.le_of_ble_eq_true rfl) (by decide) (by omega) dJ3_append_11 hS (fun q h => Or.inl (Nat.le_trans hS.1 h)) (fun v11 H locs hp11 hz9 hk9 hS => ?_)
  have hE9 := Ext.of hz9 hk9 (fun q h => h)
  have h := h.ext hE9
  have Ad := Ad.ext hE9
  subst hp11
  refine z_if_eq cx (tgt := 45) dJ3_append_14 (by decide) (by omega) (fun c14 => (by exfalso; omega)) (fun c14 => ?_)
  refine lv_iload_n hx hb dJ3_append_17 rfl (lv_at hl 1 rfl) ?_
  refine z_callS cx (j := 1) (m_J7_canEncode G l _ c0 hc (mc := 0) (ms := 0)) (lw_S q250 q251 q42 q252) (by decide +kernel) rfl (rest := []) rfl hl (Nat.le_of_ble_eq_true rfl) (by decide) (by omega) dJ3_append_18 hS (fun q h => Or.inl (Nat.le_trans hS.1 h)) (fun v18 H locs hp18 hz9 hk9 hS => ?_)
  have hE9 := Ext.of hz9 hk9 (fun q h => h)
  have h := h.ext hE9
  have Ad := Ad.ext hE9
  subst hp18
  refine z_if_eq cx (tgt := 45) dJ3_append_21 (by decide) (by omega) (fun c21 => (by exfalso; omega)) (fun c21 => ?_)
  refine lv_aload_n hx hb dJ3_append_24 rfl (lv_at hl 0 rfl) ?_
  refine z_get cx (k0 := 0) h rfl in_J4 (by decide) q143 rfl rfl dJ3_append_25 ?_
  refine lv_aload_n hx hb dJ3_append_28 rfl (lv_at hl 0 rfl) ?_
  refine lv_dup hx hb dJ3_append_29 rfl ?_
  refine z_get cx (k0 := 3) h rfl in_J4 (by decide) q146 rfl rfl dJ3_append_30 ?_
  refine lv_dup_x1 hx hb dJ3_append_33 rfl rfl ?_
  refine lv_iconst (v := iI (1)) hx hb dJ3_append_34 rfl ?_
  refine z_iadd cx (z := ((xs.length + 1 : Nat) : Int)) dJ3_append_35 (by omega) ?_
  refine z_put cx (k0 := 3) (vs' := [.ref d, .int (iI 0), u2, .int (iI ((xs.length + 1 : Nat) : Int))]) h (Or.inr (Or.inl rfl)) hS rfl in_J4 tyJ4_ok nmJ4 (by decide) q146 rfl rfl  rfl (Nat.le_of_ble_eq_true rfl) ⟨rfl, rfl⟩ dJ3_append_36 (fun H locs h hz9 hq9 hS => ?_)
  have Ad := Ad.kept (hq9 _ hda)
  refine lv_iload_n hx hb dJ3_append_39 rfl (lv_at hl 1 rfl) ?_
  refine lv_i2b (v := iI c0) hx hb dJ3_append_40 (iI_b (by omega)) ?_
  refine z_bast cx Ad hdA hS ((xs.length)) (by omega) (by omega) dJ3_append_41 (fun H locs Ad hz9 hq9 hS => ?_)
  have h := h.kept (hq9 _ (Ne.symm hda))
  refine lv_goto (tgt := 75) hx hb dJ3_append_42 (by decide) ?_
  refine lv_aload_n hx hb dJ3_append_75 rfl (lv_at hl 0 rfl) ?_
  rw [fill_set rfl] at Ad
  exact z_aret cx hQ rfl (Or.inl ⟨_, rfl⟩) (⟨rfl, d, by rcases hd with z | z; exact Or.inl ⟨z.1, by omega⟩; exact Or.inr z, h, Ad⟩) hS (by omega) dJ3_append_76
set_option maxHeartbeats 4000000 in
set_option maxRecDepth 100000 in
theorem m_J4_append (G : zE) (l : Launch) (H0 : Heap) (a b r : Nat) (xs : List Int) (u2 : Value) (c0 : Int) (hB : Bh G H0) (hab : G.2.heap.size ≤ a ∧ G.2.heap.size ≤ b) (h : Ob G H0 a 9 [.ref b, .int (iI 0), u2, .int (iI (xs.length : Int))]) (h2 : Ai G H0 b 100 (xs ++ List.replicate r 0)) (hch : chs xs) (hc : 0 ≤ c0 ∧ c0 < 128) (hn : xs.length + r ≤ 40000) {mc ms : Nat} (hmc : (if r = 0 then 1 else 0) ≤ mc) (hms : (if r = 0 then 2 * xs.length + 2 else 0) ≤ ms) : zR G l yJ4_append (ws_ yJ4_append cJ4_append 2 (some (FieldType.object "java/lang/StringBuilder"))) 5 125 mc ms [.ref a, .int (iI c0)] H0 (fun r9 H1 => r9 = .ref a ∧ ∃ d : Nat, ((d = b ∧ ¬ r = 0) ∨ H0.size ≤ d) ∧ Ob G H1 a 9 [.ref d, .int (iI 0), u2, .int (iI ((xs.length + 1 : Nat) : Int))] ∧ Ai G H1 d 100 ((xs ++ [c0]) ++ List.replicate (if r = 0 then xs.length + 1 else r - 1) 0)) (fun q => H0.size ≤ q ∨ q = a ∨ q = b) := by
  refine zR.start (cc := cJ4_append) (by decide) (Nat.le_of_ble_eq_true rfl) ?_
  intro p e s m args below meth c Q cx hQ hmn ls hl
  have hx := cx.1
  have hb := cx.2.1
  have hS : va_S (fun q => H0.size ≤ q ∨ q = a ∨ q = b) H0 H0 [] := va_S.rf
  have hl : lv_has ls 2 [(0, .ref a), (1, .int (iI c0))] := hl
  refine lv_aload_n hx hb dJ4_append_0 rfl (lv_at hl 0 rfl) ?_
  refine lv_iload_n hx hb dJ4_append_1 rfl (lv_at hl 1 rfl) ?_
  refine z_callSU cx (j := 1) (ci9 := 9) (m_J3_append G l _ a b r xs u2 c0 hB hab h h2 hch hc hn hmc hms) (lw_SU q207 q1407 q155 q208 q38 q209) rfl (zrecv cx h rfl) (by decide +kernel) rfl (rest := []) rfl hl (Nat.le_of_ble_eq_true rfl) (by decide) (by omega) dJ4_append_2 hS (fun q h => by rcases h with h | h; exact Or.inl (Nat.le_trans hS.1 h); exact Or.inr h) (fun v2 H locs hp2 hz9 hk9 hS => ?_)
  obtain ⟨rfl, d, hd, h, Ad⟩ := hp2
  refine lv_pop hx hb dJ4_append_5 rfl ?_
  refine lv_aload_n hx hb dJ4_append_6 rfl (lv_at hl 0 rfl) ?_
  exact z_aret cx hQ rfl (Or.inl ⟨_, rfl⟩) (⟨rfl, d, hd, h, Ad⟩) hS (by omega) dJ4_append_7
set_option maxHeartbeats 4000000 in
set_option maxRecDepth 100000 in
theorem m_J3_inflateIfNeededFor (G : zE) (l : Launch) (H0 : Heap) (P : Nat → Prop) (a y : Nat) (ys : List Int) (u0 u2 u3 : Value) (hB : Bh G H0) (h : Ob G H0 a 9 [u0, .int (iI 0), u2, u3]) (hy : St G P H0 y ys) {mc ms : Nat}  : zV G l yJ3_inflateIfNeededFor (ws_ yJ3_inflateIfNeededFor cJ3_inflateIfNeededFor 2 (none)) 1 20 mc ms [.ref a, .ref y] H0 (fun _ => True) (Pur H0) := by
  refine zV.start (cc := cJ3_inflateIfNeededFor) (by decide) (Nat.le_of_ble_eq_true rfl) ?_
  intro p e s m args below meth c Q cx hQ hmn ls hl
  have hx := cx.1
  have hb := cx.2.1
  have hS : va_S (Pur H0) H0 H0 [] := va_S.rf
  have hl : lv_has ls 2 [(0, .ref a), (1, .ref y)] := hl
  obtain ⟨-, -, -, b, -, hs, -⟩ := hy
  refine z_gets cx (st_cs cx.kk) hB q134 dJ3_inflateIfNeededFor_0 ?_
  refine z_if_eq cx (tgt := 21) dJ3_inflateIfNeededFor_3 (by decide) (by omega) (fun c3 => (by exfalso; omega)) (fun c3 => ?_)
  refine lv_aload_n hx hb dJ3_inflateIfNeededFor_6 rfl (lv_at hl 0 rfl) ?_
  refine z_get cx (k0 := 1) h rfl in_J4 (by decide) q144 rfl rfl dJ3_inflateIfNeededFor_7 ?_
  refine lv_aload_n hx hb dJ3_inflateIfNeededFor_10 rfl (lv_at hl 1 rfl) ?_
  refine z_callV cx (j := 0) (m_J5_coder G l _ y b (hB.ext (Ext.ofS hS)) (hs.ext (Ext.ofS hS)) (mc := 0) (ms := 0)) (lw_V q414 q161 q162 q40 q163) (zrecvS cx hs) (by decide +kernel) rfl (rest := [.int (iI 0)]) rfl hl (Nat.le_of_ble_eq_true rfl) (by decide) (by omega) dJ3_inflateIfNeededFor_11 hS (fun q h => Nat.le_trans hS.1 h) (fun v11 H locs hp11 hz9 hk9 hS => ?_)
  have hE9 := Ext.of hz9 hk9 (fun q h => h)
  subst hp11
  refine z_icmp_eq cx (tgt := 21) dJ3_inflateIfNeededFor_14 (by decide) (by omega) (fun c14 => ?_) (fun c14 => (by exfalso; omega))
  exact z_vret cx hQ rfl trivial hS (by omega) dJ3_inflateIfNeededFor_21
set_option maxHeartbeats 4000000 in
set_option maxRecDepth 100000 in
theorem m_J5_getBytes (G : zE) (l : Launch) (H0 : Heap) (P : Nat → Prop) (y d i : Nat) (ys zs : List Int) (hB : Bh G H0) (hdb : G.2.heap.size ≤ d) (hy : St G P H0 y ys) (h2 : Ai G H0 d 100 zs) (hn : i + ys.length ≤ zs.length ∧ zs.length ≤ 100000) {mc ms : Nat}  : zV G l yJ5_getBytes (ws_ yJ5_getBytes cJ5_getBytes 4 (none)) 1 60 mc ms [.ref y, .ref d, .int (iI ↑i), .int (iI 0)] H0 (fun H1 => Ai G H1 d 100 (cpyL ys zs 0 i ys.length)) (fun q => H0.size ≤ q ∨ q = d) := by
  refine zV.start (cc := cJ5_getBytes) (by decide) (Nat.le_of_ble_eq_true rfl) ?_
  intro p e s m args below meth c Q cx hQ hmn ls hl
  have hx := cx.1
  have hb := cx.2.1
  have hS : va_S (fun q => H0.size ≤ q ∨ q = d) H0 H0 [] := va_S.rf
  have hl : lv_has ls 4 [(0, .ref y), (1, .ref d), (2, .int (iI ↑i)), (3, .int (iI 0))] := hl
  obtain ⟨-, hch, hln, b, -, hs, hb9⟩ := hy
  refine lv_aload_n hx hb dJ5_getBytes_0 rfl (lv_at hl 0 rfl) ?_
  refine z_callV cx (j := 0) (m_J5_coder G l _ y b hB hs (mc := 0) (ms := 0)) (lw_V q160 q161 q162 q40 q163) (zrecvS cx hs) (by decide +kernel) rfl (rest := []) rfl hl (Nat.le_of_ble_eq_true rfl) (by decide) (by omega) dJ5_getBytes_1 hS (fun q h => Or.inl (Nat.le_trans hS.1 h)) (fun v1 H locs hp1 hz9 hk9 hS => ?_)
  have hE9 := Ext.of hz9 hk9 (fun q h => h)
  have hs := hs.ext hE9
  have hb9 := hb9.ext hE9
  have h2 := h2.ext hE9
  subst hp1
  refine lv_iload_n hx hb dJ5_getBytes_4 rfl (lv_at hl 3 rfl) ?_
  refine z_icmp_ne cx (tgt := 28) dJ5_getBytes_5 (by decide) (by omega) (fun c5 => (by exfalso; omega)) (fun c5 => ?_)
  refine lv_aload_n hx hb dJ5_getBytes_8 rfl (lv_at hl 0 rfl) ?_
  refine z_getSv cx hs q457 dJ5_getBytes_9 ?_
  refine lv_iconst (v := iI (0)) hx hb dJ5_getBytes_12 rfl ?_
  refine lv_aload_n hx hb dJ5_getBytes_13 rfl (lv_at hl 1 rfl) ?_
  refine lv_iload_n hx hb dJ5_getBytes_14 rfl (lv_at hl 2 rfl) ?_
  refine lv_iload_n hx hb dJ5_getBytes_15 rfl (lv_at hl 3 rfl) ?_
  refine z_ishl0 cx dJ5_getBytes_16 ?_
  refine lv_aload_n hx hb dJ5_getBytes_17 rfl (lv_at hl 0 rfl) ?_
  refine z_getSv cx hs q457 dJ5_getBytes_18 ?_
  refine z_alenS cx hb9 dJ5_getBytes_21 ?_
  refine z_copyC cx (sp := 0) (dp := i) (w := ys.length) (rest := []) hb9 h2 (Or.inr rfl) hS hch ⟨by omega, by omega, by omega⟩ (by omega) q419 hl (Nat.le_of_ble_eq_true rfl) (by decide) dJ5_getBytes_22 (fun H locs h2 hz9 hq9 hS => ?_)
  refine lv_goto (tgt := 43) hx hb dJ5_getBytes_25 (by decide) ?_
  exact z_vret cx hQ rfl h2 hS (by omega) dJ5_getBytes_43
set_option maxHeartbeats 4000000 in
set_option maxRecDepth 100000 in
theorem m_J3_putStringAt (G : zE) (l : Launch) (H0 : Heap) (P : Nat → Prop) (a d y i : Nat) (ys zs : List Int) (u2 u3 : Value) (hB : Bh G H0) (hdb : G.2.heap.size ≤ d) (h : Ob G H0 a 9 [.ref d, .int (iI 0), u2, u3]) (hy : St G P H0 y ys) (h2 : Ai G H0 d 100 zs) (hn : i + ys.length ≤ zs.length ∧ zs.length ≤ 100000) {mc ms : Nat}  : zV G l yJ3_putStringAt (ws_ yJ3_putStringAt cJ3_putStringAt 3 (none)) 2 83 mc ms [.ref a, .int (iI ↑i), .ref y] H0 (fun H1 => Ob G H1 a 9 [.ref d, .int (iI 0), u2, u3] ∧ Ai G H1 d 100 (cpyL ys zs 0 i ys.length)) (fun q => H0.size ≤ q ∨ q = d) := by
  refine zV.start (cc := cJ3_putStringAt) (by decide) (Nat.le_of_ble_eq_true rfl) ?_
  intro p e s m args below meth c Q cx hQ hmn ls hl
  have hx := cx.1
  have hb := cx.2.1
  have hS : va_S (fun q => H0.size ≤ q ∨ q = d) H0 H0 [] := va_S.rf
  have hl : lv_has ls 3 [(0, .ref a), (1, .int (iI ↑i)), (2, .ref y)] := hl
  have hda : a ≠ d := h.cl.ne h2.cl cx.kk rfl
  have hy2 := hy
  obtain ⟨-, -, -, b, -, hs, -⟩ := hy2
  refine lv_aload_n hx hb dJ3_putStringAt_0 rfl (lv_at hl 0 rfl) ?_
  refine lv_aload_n hx hb dJ3_putStringAt_1 rfl (lv_at hl 2 rfl) ?_
  refine z_callPv cx (j := 1) (m_J3_inflateIfNeededFor G l _ P a y ys (.ref d) u2 u3 hB h hy (mc := 0) (ms := 0)) (lw_meth q413) q38 q410 q412 q1416 q411 (zrecvP cx h rfl) (by decide +kernel) rfl (rest := []) rfl hl (Nat.le_of_ble_eq_true rfl) (by decide) (by omega) dJ3_putStringAt_2 hS (fun q h => Or.inl (Nat.le_trans hS.1 h)) (fun H locs hp2 hz9 hk9 hS => ?_)
  have hE9 := Ext.of hz9 hk9 (fun q h => h)
  skip
  have h := h.ext hE9
  have hs := hs.ext hE9
  have hy := hy.ext hE9
  have h2 := h2.ext hE9
  have hB := hB.ext hE9
  refine lv_aload_n hx hb dJ3_putStringAt_5 rfl (lv_at hl 2 rfl) ?_
  refine lv_aload_n hx hb dJ3_putStringAt_6 rfl (lv_at hl 0 rfl) ?_
  refine z_get cx (k0 := 0) h rfl in_J4 (by decide) q143 rfl rfl dJ3_putStringAt_7 ?_
  refine lv_iload_n hx hb dJ3_putStringAt_10 rfl (lv_at hl 1 rfl) ?_
  refine lv_aload_n hx hb dJ3_putStringAt_11 rfl (lv_at hl 0 rfl) ?_
  refine z_get cx (k0 := 1) h rfl in_J4 (by decide) q144 rfl rfl dJ3_putStringAt_12 ?_
  have h8 := h
  refine z_callVv cx (j := 3) (m_J5_getBytes G l _ P y d i ys zs hB hdb hy h2 hn (mc := 0) (ms := 0)) (lw_V q415 q416 q417 q40 q418) (zrecvS cx hs) (by decide +kernel) rfl (rest := []) rfl hl (Nat.le_of_ble_eq_true rfl) (by decide) (by omega) dJ3_putStringAt_15 hS (fun q h => by rcases h with h | h; exact Or.inl (Nat.le_trans hS.1 h); exact Or.inr h) (fun H locs hp15 hz9 hk9 hS => ?_)
  have h2 := hp15
  have h := h8.kept (hk9 a h8.lt (by rintro (z | z); exact absurd h8.lt (Nat.not_lt.mpr z); exact hda z))
  exact z_vret cx hQ rfl (⟨h, h2⟩) hS (by omega) dJ3_putStringAt_18
set_option maxHeartbeats 4000000 in
set_option maxRecDepth 100000 in
theorem m_J3_append_3 (G : zE) (l : Launch) (H0 : Heap) (P : Nat → Prop) (a b r y : Nat) (xs ys : List Int) (u2 : Value) (hB : Bh G H0) (hab : G.2.heap.size ≤ a ∧ G.2.heap.size ≤ b) (h : Ob G H0 a 9 [.ref b, .int (iI 0), u2, .int (iI (xs.length : Int))]) (h2 : Ai G H0 b 100 (xs ++ List.replicate r 0)) (hch : chs xs) (hy : St G P H0 y ys) (hPa : ∀ q, P q → q ≠ a ∧ q ≠ b) (hn : xs.length + r ≤ 40000 ∧ ys.length ≤ 40000) {mc ms : Nat} (hmc : (if ys.length ≤ r then 0 else 1) ≤ mc) (hms : (if ys.length ≤ r then 0 else max (xs.length + ys.length) (2 * (xs.length + r) + 2)) ≤ ms) : zR G l yJ3_append_3 (ws_ yJ3_append_3 cJ3_append_3 3 (some (FieldType.object "java/lang/AbstractStringBuilder"))) 4 105 mc ms [.ref a, .ref y] H0 (fun r9 H1 => r9 = .ref a ∧ ∃ d : Nat, ((d = b ∧ ys.length ≤ r) ∨ H0.size ≤ d) ∧ Ob G H1 a 9 [.ref d, .int (iI 0), u2, .int (iI ((xs.length + ys.length : Nat) : Int))] ∧ Ai G H1 d 100 ((xs ++ ys) ++ List.replicate (if ys.length ≤ r then r - ys.length else max (xs.length + ys.length) (2 * (xs.length + r) + 2) - (xs.length + ys.length)) 0)) (fun q => H0.size ≤ q ∨ q = a ∨ q = b) := by
  refine zR.start (cc := cJ3_append_3) (by decide) (Nat.le_of_ble_eq_true rfl) ?_
  intro p e s m args below meth c Q cx hQ hmn ls hl
  have hx := cx.1
  have hb := cx.2.1
  have hS : va_S (fun q => H0.size ≤ q ∨ q = a ∨ q = b) H0 H0 [] := va_S.rf
  have hl : lv_has ls 3 [(0, .ref a), (1, .ref y)] := hl
  have hBA : ∀ q, (H0.size ≤ q ∨ q = a ∨ q = b) → G.2.heap.size ≤ q := fun q z => by rcases z with z | z | z; exact Nat.le_trans hB.1 z; omega; omega
  have hL : (xs ++ List.replicate r (0 : Int)).length = xs.length + r := by rw [List.length_append, List.length_replicate]
  have hch2 : chs (xs ++ List.replicate r 0) := chs_app hch (fun c hc => by rw [List.eq_of_mem_replicate hc]; omega)
  have hy2 := hy
  obtain ⟨-, -, -, bs, -, hs, -⟩ := hy2
  refine lv_aload_n hx hb dJ3_append_3_0 rfl (lv_at hl 1 rfl) ?_
  refine lv_ifnonnull (tgt := 9) hx hb dJ3_append_3_1 (by decide) ?_
  refine lv_aload_n hx hb dJ3_append_3_9 rfl (lv_at hl 1 rfl) ?_
  refine z_callV cx (j := 0) (m_J5_length G l _ P y ys hB hy (mc := 0) (ms := 0)) (lw_V q405 q157 q158 q40 q159) (zrecvS cx hs) (by decide +kernel) rfl (rest := []) rfl hl (Nat.le_of_ble_eq_true rfl) (by decide) (by omega) dJ3_append_3_10 hS (fun q h => Or.inl (Nat.le_trans hS.1 h)) (fun v10 H locs hp10 hz9 hk9 hS => ?_)
  have hE9 := Ext.of hz9 hk9 (fun q h => h)
  have h := h.ext hE9
  have hs := hs.ext hE9
  subst hp10
  have hy := hy.ext hE9
  have h2 := h2.ext hE9
  have hgs := hS.1
  refine lv_istore_n (lv' := [(2, .int (iI ↑ys.length)), (0, .ref a), (1, .ref y)]) hx hb dJ3_append_3_13 rfl hl (by decide) rfl (fun ls hl => ?_)
  refine lv_aload_n hx hb dJ3_append_3_14 rfl (lv_at hl 1 rfl) ?_
  refine lv_aload_n hx hb dJ3_append_3_15 rfl (lv_at hl 1 rfl) ?_
  refine z_get cx (k0 := 3) h rfl in_J4 (by decide) q146 rfl rfl dJ3_append_3_16 ?_
  refine lv_iload_n hx hb dJ3_append_3_19 rfl (lv_at hl 0 rfl) ?_
  refine z_iadd cx (z := ((xs.length + ys.length : Nat) : Int)) dJ3_append_3_20 (by omega) ?_
  refine z_callPv cx (j := 1) (m_J3_ensureCapacityInternal G l _ a b (xs.length + ys.length) (xs ++ List.replicate r 0) u2 (.int (iI (xs.length : Int))) (hB.ofS hS hBA) hab.1 h h2 hch2 (by rw [hL]; omega) (mc := if ys.length ≤ r then 0 else 1) (ms := if ys.length ≤ r then 0 else max (xs.length + ys.length) (2 * (xs.length + r) + 2)) (by rw [hL]; split <;> split <;> omega) (by rw [hL]; split <;> split <;> omega)) (lw_meth q213) q38 q210 q212 q1408 q211 (zrecvP cx h rfl) (by decide +kernel) rfl (rest := []) rfl hl (Nat.le_of_ble_eq_true rfl) (by decide) (by omega) dJ3_append_3_21 hS (fun q h => by rcases h with h | h; exact Or.inl (Nat.le_trans hS.1 h); exact Or.inr (Or.inl h)) (fun H locs hp21 hz9 hk9 hS => ?_)
  obtain ⟨d, h, Ad, hd⟩ := hp21
  rw [hL] at Ad hd
  have hy := hy.kp (P' := P) (fun q h9 hp => ⟨hp, hk9 q h9 (by rintro (z | z); exact absurd h9 (Nat.not_lt.mpr z); exact (hPa q hp).1 z)⟩)
  obtain ⟨W, hW⟩ : ∃ W, W = (if ys.length ≤ r then r - ys.length else max (xs.length + ys.length) (2 * (xs.length + r) + 2) - (xs.length + ys.length)) := ⟨_, rfl⟩
  have hw : (xs ++ List.replicate r (0 : Int)) ++ List.replicate (if xs.length + ys.length ≤ xs.length + r then 0 else max (xs.length + ys.length) (2 * (xs.length + r) + 2) - (xs.length + r)) 0 = xs ++ List.replicate (ys.length + W) 0 := by
    rw [List.append_assoc, List.replicate_append_replicate]
    congr 2
    by_cases e : ys.length ≤ r
    · rw [if_pos (by omega)]; rw [if_pos e] at hW; omega
    · rw [if_neg (by omega)]; rw [if_neg e] at hW; omega
  rw [hw] at Ad
  have hda : d ≠ a := Ad.cl.ne h.cl cx.kk rfl
  have hdb : G.2.heap.size ≤ d := by have := hB.1; rcases hd with z | z; omega; omega
  have hl9 : (xs ++ List.replicate (ys.length + W) (0 : Int)).length = xs.length + (ys.length + W) := by rw [List.length_append, List.length_replicate]
  have hW9 : xs.length + (ys.length + W) ≤ 100000 := by
    by_cases e : ys.length ≤ r
    · rw [if_pos e] at hW; omega
    · rw [if_neg e] at hW; omega
  refine lv_aload_n hx hb dJ3_append_3_24 rfl (lv_at hl 1 rfl) ?_
  refine lv_aload_n hx hb dJ3_append_3_25 rfl (lv_at hl 1 rfl) ?_
  refine z_get cx (k0 := 3) h rfl in_J4 (by decide) q146 rfl rfl dJ3_append_3_26 ?_
  refine lv_aload_n hx hb dJ3_append_3_29 rfl (lv_at hl 2 rfl) ?_
  refine z_callPv cx (j := 2) (m_J3_putStringAt G l _ P a d y xs.length ys (xs ++ List.replicate (ys.length + W) 0) u2 (.int (iI (xs.length : Int))) (hB.ofS hS hBA) hdb h hy Ad (by rw [hl9]; omega) (mc := 0) (ms := 0)) (lw_meth q409) q38 q406 q408 q1415 q407 (zrecvP cx h rfl) (by decide +kernel) rfl (rest := []) rfl hl (Nat.le_of_ble_eq_true rfl) (by decide) (by omega) dJ3_append_3_30 hS (fun q h => by rcases h with h | h; exact Or.inl (Nat.le_trans hS.1 h); rcases hd with z | z; exact Or.inr (Or.inr (h.trans z.1)); exact Or.inl (by omega)) (fun H locs hp30 hz9 hk9 hS => ?_)
  obtain ⟨h, Ad⟩ := hp30
  have e9 : cpyL ys (xs ++ List.replicate (ys.length + W) 0) 0 xs.length ys.length = (xs ++ ys) ++ List.replicate W 0 := by
    unfold cpyL
    rw [List.take_append_of_le_length (Nat.le_refl _), List.take_length, List.drop_zero, List.take_length, List.drop_append, List.drop_eq_nil_of_le (by omega), List.nil_append, List.drop_replicate, List.append_assoc]
    congr 3
    omega
  rw [e9] at Ad
  refine lv_aload_n hx hb dJ3_append_3_33 rfl (lv_at hl 1 rfl) ?_
  refine lv_dup hx hb dJ3_append_3_34 rfl ?_
  refine z_get cx (k0 := 3) h rfl in_J4 (by decide) q146 rfl rfl dJ3_append_3_35 ?_
  refine lv_iload_n hx hb dJ3_append_3_38 rfl (lv_at hl 0 rfl) ?_
  refine z_iadd cx (z := ((xs.length + ys.length : Nat) : Int)) dJ3_append_3_39 (by omega) ?_
  refine z_put cx (k0 := 3) (vs' := [.ref d, .int (iI 0), u2, .int (iI ((xs.length + ys.length : Nat) : Int))]) h (Or.inr (Or.inl rfl)) hS rfl in_J4 tyJ4_ok nmJ4 (by decide) q146 rfl rfl  rfl (Nat.le_of_ble_eq_true rfl) ⟨rfl, rfl⟩ dJ3_append_3_40 (fun H locs h hz9 hq9 hS => ?_)
  have Ad := Ad.kept (hq9 _ hda)
  refine lv_aload_n hx hb dJ3_append_3_43 rfl (lv_at hl 1 rfl) ?_
  exact z_aret cx hQ rfl (Or.inl ⟨_, rfl⟩) (⟨rfl, d, by rcases hd with z | z; exact Or.inl ⟨z.1, by omega⟩; exact Or.inr (by omega), h, by rw [← hW]; exact Ad⟩) hS (by omega) dJ3_append_3_44
set_option maxHeartbeats 4000000 in
set_option maxRecDepth 100000 in
theorem m_J4_append_3 (G : zE) (l : Launch) (H0 : Heap) (P : Nat → Prop) (a b r y : Nat) (xs ys : List Int) (u2 : Value) (hB : Bh G H0) (hab : G.2.heap.size ≤ a ∧ G.2.heap.size ≤ b) (h : Ob G H0 a 9 [.ref b, .int (iI 0), u2, .int (iI (xs.length : Int))]) (h2 : Ai G H0 b 100 (xs ++ List.replicate r 0)) (hch : chs xs) (hy : St G P H0 y ys) (hPa : ∀ q, P q → q ≠ a ∧ q ≠ b) (hn : xs.length + r ≤ 40000 ∧ ys.length ≤ 40000) {mc ms : Nat} (hmc : (if ys.length ≤ r then 0 else 1) ≤ mc) (hms : (if ys.length ≤ r then 0 else max (xs.length + ys.length) (2 * (xs.length + r) + 2)) ≤ ms) : zR G l yJ4_append_3 (ws_ yJ4_append_3 cJ4_append_3 2 (some (FieldType.object "java/lang/StringBuilder"))) 11 253 mc ms [.ref a, .ref y] H0 (fun r9 H1 => r9 = .ref a ∧ ∃ d : Nat, ((d = b ∧ ys.length ≤ r) ∨ H0.size ≤ d) ∧ Ob G H1 a 9 [.ref d, .int (iI 0), u2, .int (iI ((xs.length + ys.length : Nat) : Int))] ∧ Ai G H1 d 100 ((xs ++ ys) ++ List.replicate (if ys.length ≤ r then r - ys.length else max (xs.length + ys.length) (2 * (xs.length + r) + 2) - (xs.length + ys.length)) 0)) (fun q => H0.size ≤ q ∨ q = a ∨ q = b) := by
  refine zR.start (cc := cJ4_append_3) (by decide) (Nat.le_of_ble_eq_true rfl) ?_
  intro p e s m args below meth c Q cx hQ hmn ls hl
  have hx := cx.1
  have hb := cx.2.1
  have hS : va_S (fun q => H0.size ≤ q ∨ q = a ∨ q = b) H0 H0 [] := va_S.rf
  have hl : lv_has ls 2 [(0, .ref a), (1, .ref y)] := hl
  refine lv_aload_n hx hb dJ4_append_3_0 rfl (lv_at hl 0 rfl) ?_
  refine lv_aload_n hx hb dJ4_append_3_1 rfl (lv_at hl 1 rfl) ?_
  refine z_callSU cx (j := 1) (ci9 := 9) (m_J3_append_3 G l _ P a b r y xs ys u2 hB hab h h2 hch hy hPa hn hmc hms) (lw_SU q395 q1413 q155 q396 q38 q397) rfl (zrecv cx h rfl) (by decide +kernel) rfl (rest := []) rfl hl (Nat.le_of_ble_eq_true rfl) (by decide) (by omega) dJ4_append_3_2 hS (fun q h => by rcases h with h | h; exact Or.inl (Nat.le_trans hS.1 h); exact Or.inr h) (fun v2 H locs hp2 hz9 hk9 hS => ?_)
  obtain ⟨rfl, d, hd, h, Ad⟩ := hp2
  refine lv_pop hx hb dJ4_append_3_5 rfl ?_
  refine lv_aload_n hx hb dJ4_append_3_6 rfl (lv_at hl 0 rfl) ?_
  exact z_aret cx hQ rfl (Or.inl ⟨_, rfl⟩) (⟨rfl, d, hd, h, Ad⟩) hS (by omega) dJ4_append_3_7
set_option maxHeartbeats 4000000 in
set_option maxRecDepth 100000 in
theorem m_J4_append_4 (G : zE) (l : Launch) (H0 : Heap) (P : Nat → Prop) (a b r y : Nat) (xs ys : List Int) (u2 : Value) (hB : Bh G H0) (hab : G.2.heap.size ≤ a ∧ G.2.heap.size ≤ b) (h : Ob G H0 a 9 [.ref b, .int (iI 0), u2, .int (iI (xs.length : Int))]) (h2 : Ai G H0 b 100 (xs ++ List.replicate r 0)) (hch : chs xs) (hy : St G P H0 y ys) (hPa : ∀ q, P q → q ≠ a ∧ q ≠ b) (hn : xs.length + r ≤ 40000 ∧ ys.length ≤ 40000) {mc ms : Nat} (hmc : (if ys.length ≤ r then 0 else 1) ≤ mc) (hms : (if ys.length ≤ r then 0 else max (xs.length + ys.length) (2 * (xs.length + r) + 2)) ≤ ms) : zR G l yJ4_append_4 (ws_ yJ4_append_4 cJ4_append_4 2 (some (FieldType.object "java/lang/AbstractStringBuilder"))) 12 274 mc ms [.ref a, .ref y] H0 (fun r9 H1 => r9 = .ref a ∧ ∃ d : Nat, ((d = b ∧ ys.length ≤ r) ∨ H0.size ≤ d) ∧ Ob G H1 a 9 [.ref d, .int (iI 0), u2, .int (iI ((xs.length + ys.length : Nat) : Int))] ∧ Ai G H1 d 100 ((xs ++ ys) ++ List.replicate (if ys.length ≤ r then r - ys.length else max (xs.length + ys.length) (2 * (xs.length + r) + 2) - (xs.length + ys.length)) 0)) (fun q => H0.size ≤ q ∨ q = a ∨ q = b) := by
  refine zR.start (cc := cJ4_append_4) (by decide) (Nat.le_of_ble_eq_true rfl) ?_
  intro p e s m args below meth c Q cx hQ hmn ls hl
  have hx := cx.1
  have hb := cx.2.1
  have hS : va_S (fun q => H0.size ≤ q ∨ q = a ∨ q = b) H0 H0 [] := va_S.rf
  have hl : lv_has ls 2 [(0, .ref a), (1, .ref y)] := hl
  refine lv_aload_n hx hb dJ4_append_4_0 rfl (lv_at hl 0 rfl) ?_
  refine lv_aload_n hx hb dJ4_append_4_1 rfl (lv_at hl 1 rfl) ?_
  refine z_callV cx (j := 1) (m_J4_append_3 G l _ P a b r y xs ys u2 hB hab h h2 hch hy hPa hn hmc hms) (lw_V q788 q392 q393 q39 q394) (zrecv cx h rfl) (by decide +kernel) rfl (rest := []) rfl hl (Nat.le_of_ble_eq_true rfl) (by decide) (by omega) dJ4_append_4_2 hS (fun q h => by rcases h with h | h; exact Or.inl (Nat.le_trans hS.1 h); exact Or.inr h) (fun v2 H locs hp2 hz9 hk9 hS => ?_)
  obtain ⟨rfl, d, hd, h, Ad⟩ := hp2
  exact z_aret cx hQ rfl (Or.inl ⟨_, rfl⟩) (⟨rfl, d, hd, h, Ad⟩) hS (by omega) dJ4_append_4_5
set_option maxHeartbeats 4000000 in
set_option maxRecDepth 100000 in
theorem m_J3_init_2 (G : zE) (l : Launch) (H0 : Heap) (P : Nat → Prop) (a y : Nat) (ys : List Int) (u2 : Value) (hB : Bh G H0) (hab : G.2.heap.size ≤ a) (h : Ob G H0 a 9 [.null, .int (iI 0), u2, .int (iI 0)]) (hy : St G P H0 y ys) (hPa : ∀ q, P q → q ≠ a) (hn : ys.length ≤ 20000) {mc ms : Nat} (hmc : 1 ≤ mc) (hms : ys.length + 16 ≤ ms) : zV G l yJ3_init_2 (ws_ yJ3_init_2 cJ3_init_2 5 (none)) 13 295 mc ms [.ref a, .ref y] H0 (fun H1 => ∃ d : Nat, H0.size ≤ d ∧ Ob G H1 a 9 [.ref d, .int (iI 0), u2, .int (iI (ys.length : Int))] ∧ Ai G H1 d 100 (ys ++ List.replicate 16 0)) (fun q => H0.size ≤ q ∨ q = a) := by
  refine zV.start (cc := cJ3_init_2) (by decide) (Nat.le_of_ble_eq_true rfl) ?_
  intro p e s m args below meth c Q cx hQ hmn ls hl
  have hx := cx.1
  have hb := cx.2.1
  have hS : va_S (fun q => H0.size ≤ q ∨ q = a) H0 H0 [] := va_S.rf
  have hl : lv_has ls 5 [(0, .ref a), (1, .ref y)] := hl
  have hBA : ∀ q, (H0.size ≤ q ∨ q = a) → G.2.heap.size ≤ q := fun q z => by rcases z with z | z; exact Nat.le_trans hB.1 z; omega
  have hal := h.lt
  have hy2 := hy
  obtain ⟨-, -, -, bs, -, hs, -⟩ := hy2
  refine lv_aload_n hx hb dJ3_init_2_0 rfl (lv_at hl 0 rfl) ?_
  refine z_obj cx q133 q70 q71 hl (Nat.le_of_ble_eq_true rfl) (by decide) dJ3_init_2_1 ?_
  refine lv_aload_n hx hb dJ3_init_2_4 rfl (lv_at hl 1 rfl) ?_
  refine z_callV cx (j := 0) (m_J5_length G l _ P y ys hB hy (mc := 0) (ms := 0)) (lw_V q405 q157 q158 q40 q159) (zrecvS cx hs) (by decide +kernel) rfl (rest := []) rfl hl (Nat.le_of_ble_eq_true rfl) (by decide) (by omega) dJ3_init_2_5 hS (fun q h => Or.inl (Nat.le_trans hS.1 h)) (fun v5 H locs hp5 hz9 hk9 hS => ?_)
  have hE9 := Ext.of hz9 hk9 (fun q h => h)
  have h := h.ext hE9
  have hs := hs.ext hE9
  subst hp5
  have hy := hy.ext hE9
  have hgs := hS.1
  refine lv_istore_n (lv' := [(2, .int (iI ↑ys.length)), (0, .ref a), (1, .ref y)]) hx hb dJ3_init_2_8 rfl hl (by decide) rfl (fun ls hl => ?_)
  refine lv_iload_n hx hb dJ3_init_2_9 rfl (lv_at hl 0 rfl) ?_
  refine z_ldc cx (z := 2147483631) q784 (by decide) dJ3_init_2_10 ?_
  refine z_icmp_ge cx (tgt := 22) dJ3_init_2_12 (by decide) (by omega) (fun c12 => (by exfalso; omega)) (fun c12 => ?_)
  refine lv_iload_n hx hb dJ3_init_2_15 rfl (lv_at hl 0 rfl) ?_
  refine lv_bipush (v := iI (16)) hx hb dJ3_init_2_16 (by decide) ?_
  refine z_iadd cx (z := ((ys.length + 16 : Nat) : Int)) dJ3_init_2_18 (by omega) ?_
  refine lv_goto (tgt := 24) hx hb dJ3_init_2_19 (by decide) ?_
  refine lv_istore_n (lv' := [(3, .int (iI ((ys.length + 16 : Nat) : Int))), (2, .int (iI ↑ys.length)), (0, .ref a), (1, .ref y)]) hx hb dJ3_init_2_24 rfl hl (by decide) rfl (fun ls hl => ?_)
  refine lv_aload_n hx hb dJ3_init_2_25 rfl (lv_at hl 3 rfl) ?_
  refine z_callV cx (j := 0) (m_J5_coder G l _ y bs (hB.ofS hS hBA) hs (mc := 0) (ms := 0)) (lw_V q414 q161 q162 q40 q163) (zrecvS cx hs) (by decide +kernel) rfl (rest := []) rfl hl (Nat.le_of_ble_eq_true rfl) (by decide) (by omega) dJ3_init_2_26 hS (fun q h => Or.inl (Nat.le_trans hS.1 h)) (fun v26 H locs hp26 hz9 hk9 hS => ?_)
  have hE9 := Ext.of hz9 hk9 (fun q h => h)
  have h := h.ext hE9
  have hs := hs.ext hE9
  subst hp26
  have hy := hy.ext hE9
  have hgs2 := hS.1
  refine lv_istore (lv' := [(4, .int (iI 0)), (3, .int (iI ((ys.length + 16 : Nat) : Int))), (2, .int (iI ↑ys.length)), (0, .ref a), (1, .ref y)]) hx hb dJ3_init_2_29 hl (by decide) rfl (fun ls hl => ?_)
  refine lv_aload_n hx hb dJ3_init_2_31 rfl (lv_at hl 3 rfl) ?_
  refine lv_iload hx hb dJ3_init_2_32 (lv_at hl 0 rfl) ?_
  refine z_put cx (k0 := 1) (vs' := [.null, .int (iI 0), u2, .int (iI 0)]) h (Or.inr rfl) hS rfl in_J4 tyJ4_ok nmJ4 (by decide) q144 rfl rfl  rfl (Nat.le_of_ble_eq_true rfl) ⟨rfl, rfl⟩ dJ3_init_2_34 (fun H locs h hz9 hq9 hS => ?_)
  have hy := hy.kp (P' := P) (Kp.put hq9 (fun q h => hPa q h))
  have hzs := hz9
  refine lv_aload_n hx hb dJ3_init_2_37 rfl (lv_at hl 3 rfl) ?_
  refine lv_iload hx hb dJ3_init_2_38 (lv_at hl 0 rfl) ?_
  refine z_if_ne cx (tgt := 49) dJ3_init_2_40 (by decide) (by omega) (fun c40 => (by exfalso; omega)) (fun c40 => ?_)
  refine lv_iload_n hx hb dJ3_init_2_43 rfl (lv_at hl 1 rfl) ?_
  refine z_newB cx hS q101 (ys.length + 16) (by omega) (by omega) dJ3_init_2_44 (fun d H hd hgd Ad hz9 hE9 hS => ?_)
  have h := h.ext hE9
  refine lv_goto (tgt := 53) hx hb dJ3_init_2_46 (by decide) ?_
  have hda : d ≠ a := by omega
  have hy := hy.kp (P' := fun q => q ≠ a ∧ q ≠ d) (fun q h9 hp => ⟨⟨hPa q hp, by omega⟩, hE9.2 q h9⟩)
  refine z_put cx (k0 := 0) (vs' := [.ref d, .int (iI 0), u2, .int (iI 0)]) h (Or.inr rfl) hS rfl in_J4 tyJ4_ok nmJ4 (by decide) q143 rfl rfl  rfl (Nat.le_of_ble_eq_true rfl) ⟨rfl, rfl⟩ dJ3_init_2_53 (fun H locs h hz9 hq9 hS => ?_)
  have Ad := Ad.kept (hq9 _ hda)
  refine lv_aload_n hx hb dJ3_init_2_56 rfl (lv_at hl 3 rfl) ?_
  refine lv_aload_n hx hb dJ3_init_2_57 rfl (lv_at hl 4 rfl) ?_
  have hy := hy.kp (P' := fun q => q ≠ a ∧ q ≠ d) (Kp.put hq9 (fun q h => h.1))
  have hdg : H0.size ≤ d := hgd
  have hBd := hB.1
  refine z_callO cx (j := 1) (m_J4_append_4 G l _ (fun q => q ≠ a ∧ q ≠ d) a d (ys.length + 16) y [] ys u2 (hB.ofS hS hBA) ⟨hab, by omega⟩ h Ad chs_nil hy (fun q h => h) (by rw [List.length_nil]; omega) (mc := 0) (ms := 0) (by rw [if_pos (by omega)]; exact Nat.le_refl _) (by rw [if_pos (by omega)]; exact Nat.le_refl _)) (lw_O q785 q1413 q396 q1417 q786 q39 q787) q397 (zrecv cx h rfl) (by decide +kernel) rfl (rest := []) rfl hl (Nat.le_of_ble_eq_true rfl) (by decide) (by omega) dJ3_init_2_58 hS (fun q h => by rcases h with h | h | h; exact Or.inl (Nat.le_trans hS.1 h); exact Or.inr h; exact Or.inl (by omega)) (fun v58 H locs hp58 hz9 hk9 hS => ?_)
  obtain ⟨rfl, d2, hd2, h, Ad⟩ := hp58
  rw [if_pos (by omega), show ys.length + 16 - ys.length = 16 by omega, List.nil_append] at Ad
  rw [List.length_nil, Nat.zero_add] at h
  refine lv_pop hx hb dJ3_init_2_61 rfl ?_
  exact z_vret cx hQ rfl (⟨d2, by rcases hd2 with z | z; omega; exact Nat.le_trans hgs2 (by omega), h, Ad⟩) hS (by omega) dJ3_init_2_62
set_option maxHeartbeats 4000000 in
set_option maxRecDepth 100000 in
theorem m_J4_init_2 (G : zE) (l : Launch) (H0 : Heap) (P : Nat → Prop) (a y : Nat) (ys : List Int) (u2 : Value) (hB : Bh G H0) (hab : G.2.heap.size ≤ a) (h : Ob G H0 a 9 [.null, .int (iI 0), u2, .int (iI 0)]) (hy : St G P H0 y ys) (hPa : ∀ q, P q → q ≠ a) (hn : ys.length ≤ 20000) {mc ms : Nat} (hmc : 1 ≤ mc) (hms : ys.length + 16 ≤ ms) : zV G l yJ4_init_2 (ws_ yJ4_init_2 cJ4_init_2 2 (none)) 14 319 mc ms [.ref a, .ref y] H0 (fun H1 => ∃ d : Nat, H0.size ≤ d ∧ Ob G H1 a 9 [.ref d, .int (iI 0), u2, .int (iI (ys.length : Int))] ∧ Ai G H1 d 100 (ys ++ List.replicate 16 0)) (fun q => H0.size ≤ q ∨ q = a) := by
  refine zV.start (cc := cJ4_init_2) (by decide) (Nat.le_of_ble_eq_true rfl) ?_
  intro p e s m args below meth c Q cx hQ hmn ls hl
  have hx := cx.1
  have hb := cx.2.1
  have hS : va_S (fun q => H0.size ≤ q ∨ q = a) H0 H0 [] := va_S.rf
  have hl : lv_has ls 2 [(0, .ref a), (1, .ref y)] := hl
  refine lv_aload_n hx hb dJ4_init_2_0 rfl (lv_at hl 0 rfl) ?_
  refine lv_aload_n hx hb dJ4_init_2_1 rfl (lv_at hl 1 rfl) ?_
  refine z_callI cx (j := 1) (m_J3_init_2 G l _ P a y ys u2 hB hab h hy hPa hn hmc hms) (lw_meth q783) q38 q781 q782 rfl (by decide +kernel) rfl (rest := []) rfl hl (Nat.le_of_ble_eq_true rfl) (by decide) (by omega) dJ4_init_2_2 hS (fun q h => by rcases h with h | h; exact Or.inl (Nat.le_trans hS.1 h); exact Or.inr h) (fun H locs hp2 hz9 hk9 hS => ?_)
  obtain ⟨d, hd, h, Ad⟩ := hp2
  exact z_vret cx hQ rfl (⟨d, hd, h, Ad⟩) hS (by omega) dJ4_init_2_5
set_option maxHeartbeats 4000000 in
set_option maxRecDepth 100000 in
theorem m_J3_getValue (G : zE) (l : Launch) (H0 : Heap) (a b : Nat) (u1 u2 u3 : Value) (h : Ob G H0 a 9 [.ref b, u1, u2, u3]) {mc ms : Nat}  : zR G l yJ3_getValue (ws_ yJ3_getValue cJ3_getValue 1 (some (FieldType.array FieldType.byte))) 0 0 mc ms [.ref a] H0 (fun r _ => r = .ref b) (Pur H0) := by
  refine zR.start (cc := cJ3_getValue) (by decide) (Nat.le_of_ble_eq_true rfl) ?_
  intro p e s m args below meth c Q cx hQ hmn ls hl
  have hx := cx.1
  have hb := cx.2.1
  have hS : va_S (Pur H0) H0 H0 [] := va_S.rf
  have hl : lv_has ls 1 [(0, .ref a)] := hl
  refine lv_aload_n hx hb dJ3_getValue_0 rfl (lv_at hl 0 rfl) ?_
  refine z_get cx (k0 := 0) h rfl in_J4 (by decide) q143 rfl rfl dJ3_getValue_1 ?_
  exact z_aret cx hQ rfl (Or.inr ⟨_, rfl⟩) rfl hS (by omega) dJ3_getValue_4
set_option maxHeartbeats 4000000 in
set_option maxRecDepth 100000 in
theorem m_J3_length (G : zE) (l : Launch) (H0 : Heap) (a : Nat) (n : Int) (u0 u1 u2 : Value) (h : Ob G H0 a 9 [u0, u1, u2, .int (iI n)]) {mc ms : Nat}  : zR G l yJ3_length (ws_ yJ3_length cJ3_length 1 (some FieldType.int)) 0 0 mc ms [.ref a] H0 (fun r _ => r = .int (iI n)) (Pur H0) := by
  refine zR.start (cc := cJ3_length) (by decide) (Nat.le_of_ble_eq_true rfl) ?_
  intro p e s m args below meth c Q cx hQ hmn ls hl
  have hx := cx.1
  have hb := cx.2.1
  have hS : va_S (Pur H0) H0 H0 [] := va_S.rf
  have hl : lv_has ls 1 [(0, .ref a)] := hl
  refine lv_aload_n hx hb dJ3_length_0 rfl (lv_at hl 0 rfl) ?_
  refine z_get cx (k0 := 3) h rfl in_J4 (by decide) q146 rfl rfl dJ3_length_1 ?_
  exact z_iret cx hQ rfl rfl rfl hS (by omega) dJ3_length_4
set_option maxHeartbeats 4000000 in
set_option maxRecDepth 100000 in
theorem m_J4_length (G : zE) (l : Launch) (H0 : Heap) (a : Nat) (n : Int) (u0 u1 u2 : Value) (h : Ob G H0 a 9 [u0, u1, u2, .int (iI n)]) {mc ms : Nat}  : zR G l yJ4_length (ws_ yJ4_length cJ4_length 1 (some FieldType.int)) 1 20 mc ms [.ref a] H0 (fun r _ => r = .int (iI n)) (Pur H0) := by
  refine zR.start (cc := cJ4_length) (by decide) (Nat.le_of_ble_eq_true rfl) ?_
  intro p e s m args below meth c Q cx hQ hmn ls hl
  have hx := cx.1
  have hb := cx.2.1
  have hS : va_S (Pur H0) H0 H0 [] := va_S.rf
  have hl : lv_has ls 1 [(0, .ref a)] := hl
  refine lv_aload_n hx hb dJ4_length_0 rfl (lv_at hl 0 rfl) ?_
  refine z_callSU cx (j := 0) (ci9 := 9) (m_J3_length G l _ a n u0 u1 u2 (h.ext (Ext.ofS hS)) (mc := 0) (ms := 0)) (lw_SU q302 q298 q155 q297 q38 q303) rfl (zrecv cx h rfl) (by decide +kernel) rfl (rest := []) rfl hl (Nat.le_of_ble_eq_true rfl) (by decide) (by omega) dJ4_length_1 hS (fun q h => Nat.le_trans hS.1 h) (fun v1 H locs hp1 hz9 hk9 hS => ?_)
  have hE9 := Ext.of hz9 hk9 (fun q h => h)
  subst hp1
  exact z_iret cx hQ rfl rfl rfl hS (by omega) dJ4_length_4
set_option maxHeartbeats 4000000 in
set_option maxRecDepth 100000 in
theorem m_J11_copyOfRange_a (G : zE) (l : Launch) (H0 : Heap) (b r : Nat) (xs : List Int) (h : Ai G H0 b 100 (xs ++ List.replicate r 0)) (hch : chs xs) (hn : xs.length + r ≤ 100000) {mc ms : Nat} (hmc : 1 ≤ mc) (hms : xs.length ≤ ms) : zR G l yJ11_copyOfRange (ws_ yJ11_copyOfRange cJ11_copyOfRange 3 (some (FieldType.array FieldType.byte))) 2 84 mc ms [.ref b, .int (iI 0), .int (iI ↑xs.length)] H0 (fun r9 H1 => ∃ a : Nat, r9 = .ref a ∧ H0.size ≤ a ∧ Ai G H1 a 100 xs) (Pur H0) := by
  refine zR.start (cc := cJ11_copyOfRange) (by decide) (Nat.le_of_ble_eq_true rfl) ?_
  intro p e s m args below meth c Q cx hQ hmn ls hl
  have hx := cx.1
  have hb := cx.2.1
  have hS : va_S (Pur H0) H0 H0 [] := va_S.rf
  have hl : lv_has ls 3 [(0, .ref b), (1, .int (iI 0)), (2, .int (iI ↑xs.length))] := hl
  have hL : (xs ++ List.replicate r (0 : Int)).length = xs.length + r := by rw [List.length_append, List.length_replicate]
  have hch2 : chs (xs ++ List.replicate r 0) := chs_app hch (fun c hc => by rw [List.eq_of_mem_replicate hc]; omega)
  have e1 : sl (xs ++ List.replicate r 0) 0 xs.length = xs := by unfold sl; rw [List.take_append_of_le_length (Nat.le_refl _), List.take_length, List.drop_zero]
  refine lv_iload_n hx hb dJ11_copyOfRange_0 rfl (lv_at hl 1 rfl) ?_
  refine z_if_ne cx (tgt := 10) dJ11_copyOfRange_1 (by decide) (by omega) (fun c1 => (by exfalso; omega)) (fun c1 => ?_)
  refine lv_iload_n hx hb dJ11_copyOfRange_4 rfl (lv_at hl 2 rfl) ?_
  refine lv_aload_n hx hb dJ11_copyOfRange_5 rfl (lv_at hl 0 rfl) ?_
  refine z_alenB cx h dJ11_copyOfRange_6 ?_
  refine z_icmp_eq cx (tgt := 17) dJ11_copyOfRange_7 (by decide) (by omega) (fun c7 => ?_) (fun c7 => ?_)
  · have hr0 : r = 0 := by omega
    subst hr0
    rw [List.replicate_zero, List.append_nil] at h hch2
    refine lv_aload_n hx hb dJ11_copyOfRange_17 rfl (lv_at hl 0 rfl) ?_
    refine z_cloneB cx (rest := []) h hch2 hS q232 q233 q234 q235 q236 q237 hl (Nat.le_of_ble_eq_true rfl) (by decide) (by omega) dJ11_copyOfRange_18 (fun a H ha hga Aa hz9 hE9 hS => ?_)
    have h := h.ext hE9
    refine va_castE hx hb cx.wn (cx.ts _ q238) ⟨_, Aa, rfl, zId cx.kk (c := 100) rfl⟩ dJ11_copyOfRange_21 ?_
    exact z_aret cx hQ rfl (Or.inr ⟨_, rfl⟩) (⟨a, rfl, hga, Aa⟩) hS (by omega) dJ11_copyOfRange_24
  · refine lv_aload_n hx hb dJ11_copyOfRange_10 rfl (lv_at hl 0 rfl) ?_
    refine lv_iload_n hx hb dJ11_copyOfRange_11 rfl (lv_at hl 1 rfl) ?_
    refine lv_iload_n hx hb dJ11_copyOfRange_12 rfl (lv_at hl 2 rfl) ?_
    refine z_callS cx (j := 3) (m_J11_copyOfRangeByte G l _ b 0 xs.length (xs ++ List.replicate r 0) (Sb.of cx.kk (h.ext (Ext.ofS hS))) hch2 (by rw [hL]; omega) ⟨Nat.zero_le _, by rw [hL]; omega⟩ (mc := 1) (ms := xs.length) (Nat.le_refl _) (by omega)) (lw_S q308 q309 q46 q310) (by decide +kernel) rfl (rest := []) rfl hl (Nat.le_of_ble_eq_true rfl) (by decide) (by omega) dJ11_copyOfRange_13 hS (fun q h => Nat.le_trans hS.1 h) (fun v13 H locs hp13 hz9 hk9 hS => ?_)
    have hE9 := Ext.of hz9 hk9 (fun q h => h)
    obtain ⟨a, rfl, hga, Aa⟩ := hp13
    rw [e1] at Aa
    exact z_aret cx hQ rfl (Or.inr ⟨_, rfl⟩) (⟨a, rfl, hga, Aa⟩) hS (by omega) dJ11_copyOfRange_16
set_option maxHeartbeats 4000000 in
set_option maxRecDepth 100000 in
theorem m_J5_init_2 (G : zE) (l : Launch) (H0 : Heap) (s0 a b r : Nat) (xs : List Int) (u2 : Value) (hB : Bh G H0) (hsb : G.2.heap.size ≤ s0) (hs0 : Ob G H0 s0 10 [.null, .int (iI 0)]) (h : Ob G H0 a 9 [.ref b, .int (iI 0), u2, .int (iI (xs.length : Int))]) (h2 : Ai G H0 b 100 (xs ++ List.replicate r 0)) (hch : chs xs) (hn : xs.length + r ≤ 100000) {mc ms : Nat} (hmc : 1 ≤ mc) (hms : xs.length ≤ ms) : zV G l yJ5_init_2 (ws_ yJ5_init_2 cJ5_init_2 5 (none)) 3 106 mc ms [.ref s0, .ref a, .null] H0 (fun H1 => ∃ d : Nat, H0.size ≤ d ∧ Ob G H1 s0 10 [.ref d, .int (iI 0)] ∧ Ai G H1 d 100 xs) (fun q => H0.size ≤ q ∨ q = s0) := by
  refine zV.start (cc := cJ5_init_2) (by decide) (Nat.le_of_ble_eq_true rfl) ?_
  intro p e s m args below meth c Q cx hQ hmn ls hl
  have hx := cx.1
  have hb := cx.2.1
  have hS : va_S (fun q => H0.size ≤ q ∨ q = s0) H0 H0 [] := va_S.rf
  have hl : lv_has ls 5 [(0, .ref s0), (1, .ref a), (2, .null)] := hl
  have hBA : ∀ q, (H0.size ≤ q ∨ q = s0) → G.2.heap.size ≤ q := fun q z => by rcases z with z | z; exact Nat.le_trans hB.1 z; omega
  have hsa : a ≠ s0 := h.cl.ne hs0.cl cx.kk rfl
  have hsbb : b ≠ s0 := h2.cl.ne hs0.cl cx.kk rfl
  have hsl := hs0.lt
  refine lv_aload_n hx hb dJ5_init_2_0 rfl (lv_at hl 0 rfl) ?_
  refine z_obj cx q290 q70 q71 hl (Nat.le_of_ble_eq_true rfl) (by decide) dJ5_init_2_1 ?_
  refine lv_aload_n hx hb dJ5_init_2_4 rfl (lv_at hl 1 rfl) ?_
  refine z_callU cx (j := 0) (m_J3_getValue G l _ a b (.int (iI 0)) u2 (.int (iI (xs.length : Int))) h (mc := 0) (ms := 0)) (lw_U q291 q293 q294 q292 q38 q295) rfl (zrecv cx h rfl) (by decide +kernel) rfl (rest := []) rfl hl (Nat.le_of_ble_eq_true rfl) (by decide) (by omega) dJ5_init_2_5 hS (fun q h => Or.inl (Nat.le_trans hS.1 h)) (fun v5 H locs hp5 hz9 hk9 hS => ?_)
  have hE9 := Ext.of hz9 hk9 (fun q h => h)
  have hs0 := hs0.ext hE9
  have h := h.ext hE9
  have h2 := h2.ext hE9
  subst hp5
  refine lv_astore_n (lv' := [(3, .ref b), (0, .ref s0), (1, .ref a), (2, .null)]) hx hb dJ5_init_2_8 rfl hl (by decide) rfl (fun ls hl => ?_)
  refine lv_aload_n hx hb dJ5_init_2_9 rfl (lv_at hl 2 rfl) ?_
  refine z_callO cx (j := 0) (m_J4_length G l _ a (xs.length : Int) (.ref b) (.int (iI 0)) u2 h (mc := 0) (ms := 0)) (lw_O q296 q298 q297 q299 q300 q39 q301) q303 (zrecv cx h rfl) (by decide +kernel) rfl (rest := []) rfl hl (Nat.le_of_ble_eq_true rfl) (by decide) (by omega) dJ5_init_2_10 hS (fun q h => Or.inl (Nat.le_trans hS.1 h)) (fun v10 H locs hp10 hz9 hk9 hS => ?_)
  have hE9 := Ext.of hz9 hk9 (fun q h => h)
  have hs0 := hs0.ext hE9
  have h := h.ext hE9
  have h2 := h2.ext hE9
  subst hp10
  refine lv_istore (lv' := [(4, .int (iI ↑xs.length)), (3, .ref b), (0, .ref s0), (1, .ref a), (2, .null)]) hx hb dJ5_init_2_13 hl (by decide) rfl (fun ls hl => ?_)
  refine lv_aload_n hx hb dJ5_init_2_15 rfl (lv_at hl 3 rfl) ?_
  refine z_callU cx (j := 0) (m_J3_isLatin1 G l _ a (.ref b) u2 (.int (iI (xs.length : Int))) (hB.ofS hS hBA) h (mc := 0) (ms := 0)) (lw_U q304 q247 q248 q246 q38 q249) rfl (zrecv cx h rfl) (by decide +kernel) rfl (rest := []) rfl hl (Nat.le_of_ble_eq_true rfl) (by decide) (by omega) dJ5_init_2_16 hS (fun q h => Or.inl (Nat.le_trans hS.1 h)) (fun v16 H locs hp16 hz9 hk9 hS => ?_)
  have hE9 := Ext.of hz9 hk9 (fun q h => h)
  have hs0 := hs0.ext hE9
  have h := h.ext hE9
  have h2 := h2.ext hE9
  subst hp16
  have hgs := hS.1
  refine z_if_eq cx (tgt := 41) dJ5_init_2_19 (by decide) (by omega) (fun c19 => (by exfalso; omega)) (fun c19 => ?_)
  refine lv_aload_n hx hb dJ5_init_2_22 rfl (lv_at hl 2 rfl) ?_
  refine lv_iconst (v := iI (0)) hx hb dJ5_init_2_23 rfl ?_
  refine z_putF cx hmn (k0 := 1) (vs' := [.null, .int (iI 0)]) hs0 (Or.inr rfl) hS rfl in_S5 tyS5_ok nmS5 (by decide) q458 rfl rfl rfl rfl (Nat.le_of_ble_eq_true rfl) ⟨rfl, rfl⟩ dJ5_init_2_24 (fun H locs hs0 hz9 hq9 hS => ?_)
  have h := h.kept (hq9 _ hsa)
  have h2 := h2.kept (hq9 _ hsbb)
  refine lv_aload_n hx hb dJ5_init_2_27 rfl (lv_at hl 2 rfl) ?_
  refine lv_aload_n hx hb dJ5_init_2_28 rfl (lv_at hl 1 rfl) ?_
  refine lv_iconst (v := iI (0)) hx hb dJ5_init_2_29 rfl ?_
  refine lv_iload hx hb dJ5_init_2_30 (lv_at hl 0 rfl) ?_
  have hzs := hz9
  refine z_callS cx (j := 3) (m_J11_copyOfRange_a G l _ b r xs h2 hch hn (mc := 1) (ms := xs.length) (Nat.le_refl _) (Nat.le_refl _)) (lw_S q305 q306 q46 q307) (by decide +kernel) rfl (rest := [.ref s0]) rfl hl (Nat.le_of_ble_eq_true rfl) (by decide) (by omega) dJ5_init_2_32 hS (fun q h => Or.inl (Nat.le_trans hS.1 h)) (fun v32 H locs hp32 hz9 hk9 hS => ?_)
  have hE9 := Ext.of hz9 hk9 (fun q h => h)
  obtain ⟨d, rfl, hgd, Ad⟩ := hp32
  have hs0 := hs0.ext hE9
  have h := h.ext hE9
  have h2 := h2.ext hE9
  have hds : d ≠ s0 := by omega
  refine z_putF cx hmn (k0 := 0) (vs' := [.ref d, .int (iI 0)]) hs0 (Or.inr rfl) hS rfl in_S5 tyS5_ok nmS5 (by decide) q457 rfl rfl rfl rfl (Nat.le_of_ble_eq_true rfl) ⟨rfl, rfl⟩ dJ5_init_2_35 (fun H locs hs0 hz9 hq9 hS => ?_)
  have h := h.kept (hq9 _ hsa)
  have h2 := h2.kept (hq9 _ hsbb)
  have Ad := Ad.kept (hq9 _ hds)
  refine lv_goto (tgt := 97) hx hb dJ5_init_2_38 (by decide) ?_
  exact z_vret cx hQ rfl (⟨d, by omega, hs0, Ad⟩) hS (by omega) dJ5_init_2_97
set_option maxHeartbeats 4000000 in
set_option maxRecDepth 100000 in
theorem m_J5_init (G : zE) (l : Launch) (H0 : Heap) (s0 a b r : Nat) (xs : List Int) (u2 : Value) (hB : Bh G H0) (hsb : G.2.heap.size ≤ s0) (hs0 : Ob G H0 s0 10 [.null, .int (iI 0)]) (h : Ob G H0 a 9 [.ref b, .int (iI 0), u2, .int (iI (xs.length : Int))]) (h2 : Ai G H0 b 100 (xs ++ List.replicate r 0)) (hch : chs xs) (hn : xs.length + r ≤ 100000) {mc ms : Nat} (hmc : 1 ≤ mc) (hms : xs.length ≤ ms) : zV G l yJ5_init (ws_ yJ5_init cJ5_init 2 (none)) 4 130 mc ms [.ref s0, .ref a] H0 (fun H1 => ∃ d : Nat, H0.size ≤ d ∧ Ob G H1 s0 10 [.ref d, .int (iI 0)] ∧ Ai G H1 d 100 xs) (fun q => H0.size ≤ q ∨ q = s0) := by
  refine zV.start (cc := cJ5_init) (by decide) (Nat.le_of_ble_eq_true rfl) ?_
  intro p e s m args below meth c Q cx hQ hmn ls hl
  have hx := cx.1
  have hb := cx.2.1
  have hS : va_S (fun q => H0.size ≤ q ∨ q = s0) H0 H0 [] := va_S.rf
  have hl : lv_has ls 2 [(0, .ref s0), (1, .ref a)] := hl
  refine lv_aload_n hx hb dJ5_init_0 rfl (lv_at hl 0 rfl) ?_
  refine lv_aload_n hx hb dJ5_init_1 rfl (lv_at hl 1 rfl) ?_
  refine lv_null hx hb dJ5_init_2 ?_
  refine z_callI cx (j := 2) (m_J5_init_2 G l _ s0 a b r xs u2 hB hsb hs0 h h2 hch hn hmc hms) (lw_meth q289) q40 q287 q288 rfl (by decide +kernel) rfl (rest := []) rfl hl (Nat.le_of_ble_eq_true rfl) (by decide) (by omega) dJ5_init_3 hS (fun q h => by rcases h with h | h; exact Or.inl (Nat.le_trans hS.1 h); exact Or.inr h) (fun H locs hp3 hz9 hk9 hS => ?_)
  obtain ⟨d, hd, hs0, Ad⟩ := hp3
  exact z_vret cx hQ rfl (⟨d, hd, hs0, Ad⟩) hS (by omega) dJ5_init_6
set_option maxHeartbeats 4000000 in
set_option maxRecDepth 100000 in
theorem m_J4_toString (G : zE) (l : Launch) (H0 : Heap) (a b r : Nat) (xs : List Int) (u2 : Value) (hB : Bh G H0) (h : Ob G H0 a 9 [.ref b, .int (iI 0), u2, .int (iI (xs.length : Int))]) (h2 : Ai G H0 b 100 (xs ++ List.replicate r 0)) (hch : chs xs) (hn : xs.length + r ≤ 100000) {mc ms : Nat} (hmc : 2 ≤ mc) (hms : xs.length + 4 ≤ ms) : zR G l yJ4_toString (ws_ yJ4_toString cJ4_toString 1 (some (FieldType.object "java/lang/String"))) 5 151 mc ms [.ref a] H0 (fun r9 H1 => ∃ q : Nat, r9 = .ref q ∧ St G (Pur H0) H1 q xs) (Pur H0) := by
  refine zR.start (cc := cJ4_toString) (by decide) (Nat.le_of_ble_eq_true rfl) ?_
  intro p e s m args below meth c Q cx hQ hmn ls hl
  have hx := cx.1
  have hb := cx.2.1
  have hS : va_S (Pur H0) H0 H0 [] := va_S.rf
  have hl : lv_has ls 1 [(0, .ref a)] := hl
  refine z_new cx (ci := 10) (vs := [.null, .int (iI 0)]) hS rfl in_S5 tyS5_ok q282 q283 q40 (zdefJ5) (by omega) dJ4_toString_0 (fun w H hw hgw Aw hz9 hE9 hS => ?_)
  refine lv_dup hx hb dJ4_toString_3 rfl ?_
  refine lv_aload_n hx hb dJ4_toString_4 rfl (lv_at hl 0 rfl) ?_
  have hB9 := hB.1
  refine z_callI cx (j := 1) (m_J5_init G l _ w a b r xs u2 (hB.ext (Ext.ofS hS)) (by omega) Aw (h.ext (Ext.ofS hS)) (h2.ext (Ext.ofS hS)) hch hn (mc := 1) (ms := xs.length) (Nat.le_refl _) (Nat.le_refl _)) (lw_meth q286) q40 q284 q285 rfl (by decide +kernel) rfl (rest := [.ref w]) rfl hl (Nat.le_of_ble_eq_true rfl) (by decide) (by omega) dJ4_toString_5 hS (fun q h => by rcases h with h | h; exact Nat.le_trans hS.1 h; exact h ▸ hgw) (fun H locs hp5 hz9 hk9 hS => ?_)
  obtain ⟨d, hd, hs0, Ad⟩ := hp5
  exact z_aret cx hQ rfl (Or.inl ⟨_, rfl⟩) (⟨w, rfl, hgw, hch, by omega, d, by show H0.size ≤ d; omega, Ss.of cx.kk hs0, Sb.of cx.kk Ad⟩) hS (by omega) dJ4_toString_8
