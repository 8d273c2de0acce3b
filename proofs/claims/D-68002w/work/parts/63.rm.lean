/-! ===== taking out of a row: pure ===== -/
theorem cpy_rm {rs : List Nat} {pad : List (Option Nat)} {i : Nat} (h : i + 1 < rs.length) : (cpyG (rs.map some ++ pad) (rs.map some ++ pad) (i + 1) i (rs.length - 1 - i)).set (rs.length - 1) none = (rmi rs i).map some ++ none :: pad := by
  have lm : (rs.map some).length = rs.length := List.length_map _
  have e1 : (rs.map some ++ pad).take i = (rs.take i).map some := by rw [List.take_append_of_le_length (by rw [lm]; omega), List.map_take]
  have e2 : ((rs.map some ++ pad).drop (i + 1)).take (rs.length - 1 - i) = (rs.drop (i + 1)).map some := by
    rw [List.drop_append_of_le_length (by rw [lm]; omega), List.take_append_of_le_length (by rw [List.length_drop, lm]; omega), List.take_of_length_le (by rw [List.length_drop, lm]; omega), List.map_drop]
  have e3 : (rs.map some ++ pad).drop (i + (rs.length - 1 - i)) = some (rs[rs.length - 1]'(by omega)) :: pad := by
    rw [show i + (rs.length - 1 - i) = rs.length - 1 by omega, List.drop_append_of_le_length (by rw [lm]; omega), ← List.map_drop, List.drop_eq_getElem_cons (show rs.length - 1 < rs.length by omega), List.drop_eq_nil_of_le (by omega)]; rfl
  unfold cpyG
  rw [e1, e2, e3, List.set_append_right _ _ (by simp only [List.length_map, List.length_take]; omega), List.set_append_right _ _ (by simp only [List.length_map, List.length_take, List.length_drop]; omega)]
  rw [show rs.length - 1 - ((rs.take i).map some).length - ((rs.drop (i + 1)).map some).length = 0 by (simp only [List.length_map, List.length_take, List.length_drop]; omega), List.set_cons_zero]
  unfold rmi
  rw [List.map_append, List.append_assoc]
theorem set_rm {rs : List Nat} {pad : List (Option Nat)} {i : Nat} (h : i + 1 = rs.length) : (rs.map some ++ pad).set (rs.length - 1) none = (rmi rs i).map some ++ none :: pad := by
  have e0 : rs = rmi rs i ++ [rs[i]'(by omega)] := by
    unfold rmi
    rw [List.drop_eq_nil_of_le (by omega), List.append_nil]
    have := List.take_succ_eq_append_getElem (show i < rs.length by omega)
    rw [h, List.take_length] at this
    exact this
  have hl : (rmi rs i).length = rs.length - 1 := rmi_len (by omega)
  have e1 : rs.map some ++ pad = (rmi rs i).map some ++ (some (rs[i]'(by omega)) :: pad) := by
    conv => lhs; rw [e0]
    rw [List.map_append, List.append_assoc]; rfl
  rw [e1, List.set_append_right _ _ (by rw [List.length_map]; omega), show rs.length - 1 - ((rmi rs i).map some).length = 0 by (rw [List.length_map]; omega), List.set_cons_zero]
/-! ===== a method of java/lang/Object that isn't native ===== -/
theorem zMet_ofWF {l : Launch} {y : MethodName} {ws ws' : List Cond} {rm : Room} {Pc : Array Value → State → Prop} {Qc : Array Value → State → Outcome → State → Prop} {mc ms : Nat} {free : Addr → Prop} {cc : ByteArray} {maxL : Nat} {ret : Option FieldType}
    (hy : plainFor y = true) (hw : ws = Cond.code y cc maxL ret :: ws')
    (body : ∀ p e s m args below meth c s₁, BodyLoose p l y (headSpec ws rm) cc maxL ret e s m args below meth c s₁ → c.maxLocals = maxL → Pc args s →
      W p l e (headSpec ws rm).room s m args below meth c s.heap [] 0 0 (MQ below Qc args s mc ms free) (entryFrame m args maxL)) : Met l y ws rm Pc Qc mc ms free := by
  refine MetFree.of_bodySF (code := cc) (maxLocals := maxL) (ret := ret) hy ?_ ?_
  · intro args s m h hn
    obtain ⟨meth, c, h1, h2, h3, h4, h5, h6, -, -⟩ := Cond.code_spec hn (atoms_spec (ws := ws) h _ (by rw [hw]; exact List.mem_cons_self))
    exact ⟨meth, c, h1, h2, h3, h4, h5, h6⟩
  · intro p e s m args below meth c s₁ B hml hP _
    have hh0 : s₁.heap = s.heap := by rw [B.state]; rfl
    obtain ⟨t, a1, o, b1, b2, b3⟩ := body p e s m args below meth c s₁ B hml hP s₁ hh0 (Stand.of_body B)
    exact ⟨t, o, a1, b1, b2, ⟨b3.1, b3.2⟩⟩
theorem zR.startF {l : Launch} {y : MethodName} {cc : ByteArray} {nL : Nat} {ret : Option FieldType} {F Lw mc ms : Nat} {as : List Value} {H0 : Heap} {A : Nat → Prop} {G : zE} {post : Value → Heap → Prop} (hy : plainFor y = true) (hn : (lg_sl as).length ≤ nL)
    (body : ∀ (p : Program) (e : Env) (s : State) (m : MethodId) (args : Array Value) (below : List Frame) (meth : Method) (c : Code) (Q : State → Prop), zC p s m args meth c cc y.cls nL ret G H0 → Q = zRQ below post A args s mc ms → meth.name = y.name → ∀ ls : Array Slot, lv_has ls nL (lv_args 0 as) →
      W p l e ⟨F, mc, ms, Lw⟩ s m args below meth c H0 [] 0 0 Q (F0 m 0 ls [])) : zR G l y (ws_ y cc nL ret) F Lw mc ms as H0 post A := by
  refine zMet_ofWF (cc := cc) (maxL := nL) (ret := ret) hy rfl ?_
  intro p e s m args below meth c s₁ B hml hv
  obtain ⟨rfl, hH, hK⟩ := hv
  have hts := atoms_spec (ws := ws_ y cc nL ret) B.pre
  have hts : ∀ w ∈ lw_all, w.before _ s = true := fun w h => hts w (List.mem_cons_of_mem _ h)
  have hl := lv_entry as (n := nL) hn
  rw [lg_entry_eq]
  rw [hH]
  exact body p e s m _ below meth c _ ⟨B.exec, B.bytes, hml, findClass_of_methodNamed B.named, hts, B.returns, B.notSynchronized, hK, hH⟩ rfl (name_of_methodNamed B.named B.method).1 _ hl
