/-! the component, walked: X1_all X0_areSet X1_around X1_isCover X1_isBare X0_isCover X1_costOf X0_costOf X0_fewest X11_init X12_init X13_init X0_cheapest -/

noncomputable def fX1_all (j : Fin 3) (σ : xS) : Option (Int32) :=
  some ((ish (1 : Int32) (xN σ j 2)) - (1 : Int32))
theorem wi_X1_all : wInfV yX1_all cX1_all 1 (Option.some Jvm.ClassFile.FieldType.int) 0 := ⟨q664, q665, q107, q666, (by decide +kernel), (by decide +kernel), (by decide +kernel)⟩
set_option maxHeartbeats 4000000 in
set_option maxRecDepth 100000 in
theorem met_X1_all {l : Launch} {E : xG} {j : Fin 3} {σ : xS} {res : Int32} (hf : fX1_all j σ = some res) : xMet l yX1_all cX1_all 1 (Option.some Jvm.ClassFile.FieldType.int) 0 0 E [.ref (xnt E j)] σ (some (.int res)) σ := by
  replace hf : (some ((ish (1 : Int32) (xN σ j 2)) - (1 : Int32))) = some res := hf
  refine x_start (by decide) (Nat.le_of_ble_eq_true rfl) ?_
  intro p e s m args below meth c S hnm hR hS ls hl
  obtain ⟨hx, hb, hml, hown, hts⟩ := S.1.1
  have hl : lv_has ls 1 [(0, .ref (xnt E j))] := hl
  have hn : XN 0 0 (xnx σ) (xns σ) (xnx σ) (xns σ) σ := ⟨Nat.zero_add _, Nat.zero_add _, (rl1.rf σ).1, (rl1.rf σ).2⟩
  refine lv_iconst (v := 1) hx hb dX1_all_0 (by decide) ?_
  refine lv_aload_n hx hb dX1_all_1 rfl (lv_at hl 0 rfl) ?_
  refine x_nget (j := j) (k := 2) (v := .int (xN σ j 2)) S hR (lk_X1_31 _ List.mem_cons_self) rfl dX1_all_2 ?_
  refine lv_ishl hx hb dX1_all_5 ?_
  refine lv_iconst (v := 1) hx hb dX1_all_6 (by decide) ?_
  refine lv_isub hx hb dX1_all_7 ?_
  obtain rfl := Option.some.inj hf
  exact x_iret S hR hS hn rfl dX1_all_8


noncomputable def fX0_areSet (x1 : Int32) (σ : xS) : Option (Int32) :=
  (fX1_all (0 : Fin 3) σ).bind (fun v1 => some ((fX0_in x1 (0 : Int32) v1) &&& 1))
theorem wi_X0_areSet : wInfV yX0_areSet cX0_areSet 2 (Option.some Jvm.ClassFile.FieldType.boolean) 1 := ⟨q661, qs13, q106, q662, (by decide +kernel), (by decide +kernel), (by decide +kernel)⟩
set_option maxHeartbeats 4000000 in
set_option maxRecDepth 100000 in
theorem met_X0_areSet {l : Launch} {E : xG} {x1 : Int32} {σ : xS} {res : Int32} (hf : fX0_areSet x1 σ = some res) : xMet l yX0_areSet cX0_areSet 2 (Option.some Jvm.ClassFile.FieldType.boolean) 1 22 E [.ref (xo E), .int x1] σ (some (.int res)) σ := by
  replace hf : ((fX1_all (0 : Fin 3) σ).bind (fun v1 => some ((fX0_in x1 (0 : Int32) v1) &&& 1))) = some res := hf
  refine x_start (by decide) (Nat.le_of_ble_eq_true rfl) ?_
  intro p e s m args below meth c S hnm hR hS ls hl
  obtain ⟨hx, hb, hml, hown, hts⟩ := S.1.1
  have hl : lv_has ls 2 [(0, .ref (xo E)), (1, .int x1)] := hl
  have hn : XN 0 0 (xnx σ) (xns σ) (xnx σ) (xns σ) σ := ⟨Nat.zero_add _, Nat.zero_add _, (rl1.rf σ).1, (rl1.rf σ).2⟩
  refine lv_iload_n hx hb dX0_areSet_0 rfl (lv_at hl 1 rfl) ?_
  refine lv_iconst (v := 0) hx hb dX0_areSet_1 (by decide) ?_
  refine lv_aload_n hx hb dX0_areSet_2 rfl (lv_at hl 0 rfl) ?_
  refine x_oget (k := 0) (v := .ref (xnt E (0 : Fin 3))) S hR (lk_X0_10 _ List.mem_cons_self) rfl dX0_areSet_3 ?_
  refine k_bind hf (fun v1 hv1 hf => ?_)
  refine x_call (C := RX1) (As := []) (rest := [.int (0 : Int32), .int x1]) S hR hS hn (met_X1_all hv1) (rl1.rf _) (hn.b (rl0.rf _)) wi_X1_all (xrc S.2 hR (ci := 1) rfl (Or.inr (Or.inl ⟨_, rfl, rfl⟩))) rfl q663 ⟨Nat.le_of_ble_eq_true rfl, Nat.le_of_ble_eq_true rfl⟩ rfl hl.1 rfl (Nat.le_of_ble_eq_true rfl) dX0_areSet_6 (fun H locs cells slots hR hS hn => ?_)
  refine s_call (As := [.int x1, .int (0 : Int32), .int v1]) (rest := []) S.1.1 (met_X0_in rfl) wi_X0_in q479 ⟨rfl, rfl⟩ ⟨Nat.le_of_ble_eq_true rfl, Nat.le_of_ble_eq_true rfl⟩ rfl hl.1 rfl (Nat.le_of_ble_eq_true rfl) dX0_areSet_9 hn.cs ?_
  obtain rfl := Option.some.inj hf
  exact x_iret S hR hS hn rfl dX0_areSet_12


noncomputable def LX1_around_4 (y0 : Fin 3) (y1 : Int32) (σ : xS) (q : Int32 × Int32) : Option ((Int32 × Int32) ⊕ (Int32)) :=
  if (xN σ y0 2) ≤ q.2 then some (Sum.inr q.1) else if (fX0_has y1 q.2) = (0 : Int32) then (some (q.1 ||| (0 : Int32))).bind (fun v1 => some (Sum.inl (v1, q.2 + (1 : Int32)))) else (xla 1 σ (11 + 2 * y0.val) q.2).bind (fun v2 => (some (q.1 ||| v2)).bind (fun v3 => some (Sum.inl (v3, q.2 + (1 : Int32)))))
noncomputable def fX1_around (j : Fin 3) (x1 : Int32) (σ : xS) : Option (Int32) :=
  (lpw (LX1_around_4 j x1 σ) ((0 : Int32), (0 : Int32))).bind (fun b4 => some b4)
theorem wi_X1_around : wInfV yX1_around cX1_around 4 (Option.some Jvm.ClassFile.FieldType.int) 1 := ⟨q677, q678, q107, q679, (by decide +kernel), (by decide +kernel), (by decide +kernel)⟩
set_option maxHeartbeats 4000000 in
set_option maxRecDepth 100000 in
theorem wbLX1_around_4 {l : Launch} {E : xG} {p : Program} {e : Env} {s : State} {m : MethodId} {args : Array Value} {below : List Frame} {meth : Method} {c : Code} {Q : State → Prop} {n0 s0 nf sf : Nat} {y0 : Fin 3} {y1 : Int32} {σ : xS} {q : Int32 × Int32} {res : (Int32 × Int32) ⊕ (Int32)} (S : xSt E RX1 p m c cX1_around 4 s args meth (Option.some Jvm.ClassFile.FieldType.int)) (hf : LX1_around_4 y0 y1 σ q = some res) (hK : ∀ q, res = Sum.inl q → (∀ (H : Heap) (locs : List Loc) (cells slots : Nat) (ls : Array Slot), xR E σ H → va_S (xAA E) s.heap H locs → XN cells slots n0 s0 nf sf σ → lv_has ls 4 [(0, .ref (xnt E y0)), (1, .int y1), (2, .int q.1), (3, .int q.2)] → W p l e (xRm 1 21 (nf - n0) (sf - s0)) s m args below meth c H locs cells slots Q (F0 m 4 ls []))) (hE39 : ∀ b, res = Sum.inr b → (∀ (H : Heap) (locs : List Loc) (cells slots : Nat) (ls : Array Slot), xR E σ H → va_S (xAA E) s.heap H locs → XN cells slots n0 s0 nf sf σ → lv_has ls 4 [(2, .int b)] → W p l e (xRm 1 21 (nf - n0) (sf - s0)) s m args below meth c H locs cells slots Q (F0 m 39 ls []))) : (∀ (H : Heap) (locs : List Loc) (cells slots : Nat) (ls : Array Slot), xR E σ H → va_S (xAA E) s.heap H locs → XN cells slots n0 s0 nf sf σ → lv_has ls 4 [(0, .ref (xnt E y0)), (1, .int y1), (2, .int q.1), (3, .int q.2)] → W p l e (xRm 1 21 (nf - n0) (sf - s0)) s m args below meth c H locs cells slots Q (F0 m 4 ls [])) := by
  replace hf : (if (xN σ y0 2) ≤ q.2 then some (Sum.inr q.1) else if (fX0_has y1 q.2) = (0 : Int32) then (some (q.1 ||| (0 : Int32))).bind (fun v1 => some (Sum.inl (v1, q.2 + (1 : Int32)))) else (xla 1 σ (11 + 2 * y0.val) q.2).bind (fun v2 => (some (q.1 ||| v2)).bind (fun v3 => some (Sum.inl (v3, q.2 + (1 : Int32)))))) = some res := hf
  obtain ⟨hx, hb, hml, hown, hts⟩ := S.1.1
  intro H locs cells slots ls hR hS hn hl
  refine lv_iload_n hx hb dX1_around_4 rfl (lv_at hl 3 rfl) ?_
  refine lv_aload_n hx hb dX1_around_5 rfl (lv_at hl 0 rfl) ?_
  refine x_nget (j := y0) (k := 2) (v := .int (xN σ y0 2)) S hR (lk_X1_31 _ List.mem_cons_self) rfl dX1_around_6 ?_
  refine lv_icmp_ge (tgt := 39) hx hb dX1_around_9 (by decide) (fun c_9 => ?_) (fun c_9 => ?_)
  · replace hf := o_t hf c_9
    exact hE39 _ (Option.some.inj hf).symm _ _ _ _ _ hR hS hn (lv_sub (l' := [(2, .int q.1)]) hl [2] rfl)
  · replace hf := o_f hf c_9
    refine lv_iload_n hx hb dX1_around_12 rfl (lv_at hl 2 rfl) ?_
    refine lv_iload_n hx hb dX1_around_13 rfl (lv_at hl 1 rfl) ?_
    refine lv_iload_n hx hb dX1_around_14 rfl (lv_at hl 3 rfl) ?_
    refine s_callN (As := [.int y1, .int q.2]) (rest := [.int q.1]) S.1.1 S.2.2.1 (met_X0_has rfl) wi_X0_has q568 ⟨rfl, rfl⟩ ⟨Nat.le_of_ble_eq_true rfl, Nat.le_of_ble_eq_true rfl⟩ rfl hl.1 rfl (Nat.le_of_ble_eq_true rfl) dX1_around_15 hn.cs ?_
    refine lv_if_eq (tgt := 30) hx hb dX1_around_18 (by decide) (fun c_18 => ?_) (fun c_18 => ?_)
    · replace hf := o_t hf c_18
      refine lv_iconst (v := 0) hx hb dX1_around_30 (by decide) ?_
      refine lv_ior hx hb dX1_around_31 ?_
      refine k_bind hf (fun v1 hv1 hf => ?_)
      refine m_nmi hv1 ?_
      refine lv_istore_n (lv' := [(2, .int v1), (0, .ref (xnt E y0)), (1, .int y1), (3, .int q.2)]) hx hb dX1_around_32 rfl hl (by decide) rfl (fun ls hl => ?_)
      refine lv_iinc (lv' := [(3, .int (q.2 + (1 : Int32))), (2, .int v1), (0, .ref (xnt E y0)), (1, .int y1)]) hx hb dX1_around_33 hl (k := 3) rfl (m_inc (by decide)) (by decide) rfl (fun ls hl => ?_)
      refine lv_goto (tgt := 4) hx hb dX1_around_36 (by decide) ?_
      exact hK _ (Option.some.inj hf).symm _ _ _ _ _ hR hS hn (lv_sub (l' := [(0, .ref (xnt E y0)), (1, .int y1), (2, .int v1), (3, .int (q.2 + (1 : Int32)))]) hl [2, 3, 1, 0] rfl)
    · replace hf := o_f hf c_18
      refine lv_aload_n hx hb dX1_around_21 rfl (lv_at hl 0 rfl) ?_
      refine x_nget (j := y0) (k := 1) (v := .ref (xar E (11 + 2 * y0.val))) S hR (lk_X1_17 _ List.mem_cons_self) rfl dX1_around_22 ?_
      refine lv_iload_n hx hb dX1_around_25 rfl (lv_at hl 3 rfl) ?_
      refine k_bind hf (fun v2 hv2 hf => ?_)
      refine x_sl1 S hR hv2 dX1_around_26 ?_
      refine lv_goto (tgt := 31) hx hb dX1_around_27 (by decide) ?_
      refine lv_ior hx hb dX1_around_31 ?_
      refine k_bind hf (fun v3 hv3 hf => ?_)
      refine m_nmi hv3 ?_
      refine lv_istore_n (lv' := [(2, .int v3), (0, .ref (xnt E y0)), (1, .int y1), (3, .int q.2)]) hx hb dX1_around_32 rfl hl (by decide) rfl (fun ls hl => ?_)
      refine lv_iinc (lv' := [(3, .int (q.2 + (1 : Int32))), (2, .int v3), (0, .ref (xnt E y0)), (1, .int y1)]) hx hb dX1_around_33 hl (k := 3) rfl (m_inc (by decide)) (by decide) rfl (fun ls hl => ?_)
      refine lv_goto (tgt := 4) hx hb dX1_around_36 (by decide) ?_
      exact hK _ (Option.some.inj hf).symm _ _ _ _ _ hR hS hn (lv_sub (l' := [(0, .ref (xnt E y0)), (1, .int y1), (2, .int v3), (3, .int (q.2 + (1 : Int32)))]) hl [2, 3, 1, 0] rfl)
set_option maxHeartbeats 4000000 in
set_option maxRecDepth 100000 in
theorem wLX1_around_4 {l : Launch} {E : xG} {p : Program} {e : Env} {s : State} {m : MethodId} {args : Array Value} {below : List Frame} {meth : Method} {c : Code} {Q : State → Prop} {n0 s0 nf sf : Nat} {y0 : Fin 3} {y1 : Int32} {σ : xS} {q : Int32 × Int32} {res : Int32} (S : xSt E RX1 p m c cX1_around 4 s args meth (Option.some Jvm.ClassFile.FieldType.int)) (h : lpw (LX1_around_4 y0 y1 σ) q = some res) (hE39 : ∀ b, res = b → (∀ (H : Heap) (locs : List Loc) (cells slots : Nat) (ls : Array Slot), xR E σ H → va_S (xAA E) s.heap H locs → XN cells slots n0 s0 nf sf σ → lv_has ls 4 [(2, .int b)] → W p l e (xRm 1 21 (nf - n0) (sf - s0)) s m args below meth c H locs cells slots Q (F0 m 39 ls []))) : (∀ (H : Heap) (locs : List Loc) (cells slots : Nat) (ls : Array Slot), xR E σ H → va_S (xAA E) s.heap H locs → XN cells slots n0 s0 nf sf σ → lv_has ls 4 [(0, .ref (xnt E y0)), (1, .int y1), (2, .int q.1), (3, .int q.2)] → W p l e (xRm 1 21 (nf - n0) (sf - s0)) s m args below meth c H locs cells slots Q (F0 m 4 ls [])) :=
  lpw_go _ (fun q => (∀ (H : Heap) (locs : List Loc) (cells slots : Nat) (ls : Array Slot), xR E σ H → va_S (xAA E) s.heap H locs → XN cells slots n0 s0 nf sf σ → lv_has ls 4 [(0, .ref (xnt E y0)), (1, .int y1), (2, .int q.1), (3, .int q.2)] → W p l e (xRm 1 21 (nf - n0) (sf - s0)) s m args below meth c H locs cells slots Q (F0 m 4 ls []))) (fun b0 => (∀ b, b0 = b → (∀ (H : Heap) (locs : List Loc) (cells slots : Nat) (ls : Array Slot), xR E σ H → va_S (xAA E) s.heap H locs → XN cells slots n0 s0 nf sf σ → lv_has ls 4 [(2, .int b)] → W p l e (xRm 1 21 (nf - n0) (sf - s0)) s m args below meth c H locs cells slots Q (F0 m 39 ls [])))) (fun q x hf hK hX => wbLX1_around_4 S hf hK (fun b eb => (hX _ eb) b rfl)) q res h hE39
set_option maxHeartbeats 4000000 in
set_option maxRecDepth 100000 in
theorem met_X1_around {l : Launch} {E : xG} {j : Fin 3} {x1 : Int32} {σ : xS} {res : Int32} (hf : fX1_around j x1 σ = some res) : xMet l yX1_around cX1_around 4 (Option.some Jvm.ClassFile.FieldType.int) 1 21 E [.ref (xnt E j), .int x1] σ (some (.int res)) σ := by
  replace hf : ((lpw (LX1_around_4 j x1 σ) ((0 : Int32), (0 : Int32))).bind (fun b4 => some b4)) = some res := hf
  refine x_start (by decide) (Nat.le_of_ble_eq_true rfl) ?_
  intro p e s m args below meth c S hnm hR hS ls hl
  obtain ⟨hx, hb, hml, hown, hts⟩ := S.1.1
  have hl : lv_has ls 4 [(0, .ref (xnt E j)), (1, .int x1)] := hl
  have hn : XN 0 0 (xnx σ) (xns σ) (xnx σ) (xns σ) σ := ⟨Nat.zero_add _, Nat.zero_add _, (rl1.rf σ).1, (rl1.rf σ).2⟩
  refine lv_iconst (v := 0) hx hb dX1_around_0 (by decide) ?_
  refine lv_istore_n (lv' := [(2, .int (0 : Int32)), (0, .ref (xnt E j)), (1, .int x1)]) hx hb dX1_around_1 rfl hl (by decide) rfl (fun ls hl => ?_)
  refine lv_iconst (v := 0) hx hb dX1_around_2 (by decide) ?_
  refine lv_istore_n (lv' := [(3, .int (0 : Int32)), (2, .int (0 : Int32)), (0, .ref (xnt E j)), (1, .int x1)]) hx hb dX1_around_3 rfl hl (by decide) rfl (fun ls hl => ?_)
  refine k_bind hf (fun b4 hb4 hf => ?_)
  refine wLX1_around_4 S hb4 ?_ _ _ _ _ _ hR hS hn (lv_sub (l' := [(0, .ref (xnt E j)), (1, .int x1), (2, .int (0 : Int32)), (3, .int (0 : Int32))]) hl [2, 3, 1, 0] rfl)
  · intro b eb; subst eb; intro H locs cells slots ls hR hS hn hl
    refine lv_iload_n hx hb dX1_around_39 rfl (lv_at hl 0 rfl) ?_
    obtain rfl := Option.some.inj hf
    exact x_iret S hR hS hn rfl dX1_around_40


noncomputable def fX1_isCover (j : Fin 3) (x1 : Int32) (σ : xS) : Option (Int32) :=
  (fX1_all j σ).bind (fun v1 => (some (v1 &&& (x1 ^^^ (-1 : Int32)))).bind (fun v2 => (fX1_around j v2 σ).bind (fun v3 => if (v3 &&& v2) = (0 : Int32) then some (1 : Int32) else some (0 : Int32))))
theorem wi_X1_isCover : wInfV yX1_isCover cX1_isCover 3 (Option.some Jvm.ClassFile.FieldType.boolean) 1 := ⟨q672, q673, q107, q674, (by decide +kernel), (by decide +kernel), (by decide +kernel)⟩
set_option maxHeartbeats 4000000 in
set_option maxRecDepth 100000 in
theorem met_X1_isCover {l : Launch} {E : xG} {j : Fin 3} {x1 : Int32} {σ : xS} {res : Int32} (hf : fX1_isCover j x1 σ = some res) : xMet l yX1_isCover cX1_isCover 3 (Option.some Jvm.ClassFile.FieldType.boolean) 2 44 E [.ref (xnt E j), .int x1] σ (some (.int res)) σ := by
  replace hf : ((fX1_all j σ).bind (fun v1 => (some (v1 &&& (x1 ^^^ (-1 : Int32)))).bind (fun v2 => (fX1_around j v2 σ).bind (fun v3 => if (v3 &&& v2) = (0 : Int32) then some (1 : Int32) else some (0 : Int32))))) = some res := hf
  refine x_start (by decide) (Nat.le_of_ble_eq_true rfl) ?_
  intro p e s m args below meth c S hnm hR hS ls hl
  obtain ⟨hx, hb, hml, hown, hts⟩ := S.1.1
  have hl : lv_has ls 3 [(0, .ref (xnt E j)), (1, .int x1)] := hl
  have hn : XN 0 0 (xnx σ) (xns σ) (xnx σ) (xns σ) σ := ⟨Nat.zero_add _, Nat.zero_add _, (rl1.rf σ).1, (rl1.rf σ).2⟩
  refine lv_aload_n hx hb dX1_isCover_0 rfl (lv_at hl 0 rfl) ?_
  refine k_bind hf (fun v1 hv1 hf => ?_)
  refine x_call (C := RX1) (As := []) (rest := []) S hR hS hn (met_X1_all hv1) (rl1.rf _) (hn.b (rl0.rf _)) wi_X1_all (xrc S.2 hR (ci := 1) rfl (Or.inr (Or.inl ⟨_, rfl, rfl⟩))) rfl q675 ⟨Nat.le_of_ble_eq_true rfl, Nat.le_of_ble_eq_true rfl⟩ rfl hl.1 rfl (Nat.le_of_ble_eq_true rfl) dX1_isCover_1 (fun H locs cells slots hR hS hn => ?_)
  refine lv_iload_n hx hb dX1_isCover_4 rfl (lv_at hl 1 rfl) ?_
  refine lv_iconst (v := -1) hx hb dX1_isCover_5 (by decide) ?_
  refine lv_ixor hx hb dX1_isCover_6 ?_
  refine lv_iand hx hb dX1_isCover_7 ?_
  refine k_bind hf (fun v2 hv2 hf => ?_)
  refine m_nmi hv2 ?_
  refine lv_istore_n (lv' := [(2, .int v2), (0, .ref (xnt E j)), (1, .int x1)]) hx hb dX1_isCover_8 rfl hl (by decide) rfl (fun ls hl => ?_)
  refine lv_aload_n hx hb dX1_isCover_9 rfl (lv_at hl 1 rfl) ?_
  refine lv_iload_n hx hb dX1_isCover_10 rfl (lv_at hl 0 rfl) ?_
  refine k_bind hf (fun v3 hv3 hf => ?_)
  refine x_call (C := RX1) (As := [.int v2]) (rest := []) S hR hS hn (met_X1_around hv3) (rl1.rf _) (hn.b (rl0.rf _)) wi_X1_around (xrc S.2 hR (ci := 1) rfl (Or.inr (Or.inl ⟨_, rfl, rfl⟩))) rfl q676 ⟨Nat.le_of_ble_eq_true rfl, Nat.le_of_ble_eq_true rfl⟩ rfl hl.1 rfl (Nat.le_of_ble_eq_true rfl) dX1_isCover_11 (fun H locs cells slots hR hS hn => ?_)
  refine lv_iload_n hx hb dX1_isCover_14 rfl (lv_at hl 0 rfl) ?_
  refine lv_iand hx hb dX1_isCover_15 ?_
  refine lv_if_ne (tgt := 23) hx hb dX1_isCover_16 (by decide) (fun c_16 => ?_) (fun c_16 => ?_)
  · replace hf := o_f hf c_16
    refine lv_iconst (v := 0) hx hb dX1_isCover_23 (by decide) ?_
    obtain rfl := Option.some.inj hf
    exact x_iret S hR hS hn rfl dX1_isCover_24
  · replace hf := o_t hf c_16
    refine lv_iconst (v := 1) hx hb dX1_isCover_19 (by decide) ?_
    refine lv_goto (tgt := 24) hx hb dX1_isCover_20 (by decide) ?_
    obtain rfl := Option.some.inj hf
    exact x_iret S hR hS hn rfl dX1_isCover_24


noncomputable def LX1_isBare_2 (y0 : Fin 3) (y1 : Int32) (σ : xS) (q : Int32) : Option ((Int32) ⊕ ((Unit) ⊕ (Unit))) :=
  if (xN σ y0 2) ≤ q then some (Sum.inr (Sum.inr ())) else if (fX0_has y1 q) = (0 : Int32) then some (Sum.inl (q + (1 : Int32))) else (xla 1 σ (11 + 2 * y0.val) q).bind (fun v1 => if (v1 &&& (y1 ^^^ (-1 : Int32))) = (0 : Int32) then some (Sum.inr (Sum.inl ())) else some (Sum.inl (q + (1 : Int32))))
noncomputable def fX1_isBare (j : Fin 3) (x1 : Int32) (σ : xS) : Option (Int32) :=
  (lpw (LX1_isBare_2 j x1 σ) (0 : Int32)).bind ((fun e => Sum.elim (fun b3 => some (0 : Int32)) (fun b4 => (fX1_isCover j x1 σ).bind (fun v5 => some (v5 &&& 1))) e))
theorem wi_X1_isBare : wInfV yX1_isBare cX1_isBare 3 (Option.some Jvm.ClassFile.FieldType.boolean) 1 := ⟨q668, q669, q107, q670, (by decide +kernel), (by decide +kernel), (by decide +kernel)⟩
set_option maxHeartbeats 4000000 in
set_option maxRecDepth 100000 in
theorem wbLX1_isBare_2 {l : Launch} {E : xG} {p : Program} {e : Env} {s : State} {m : MethodId} {args : Array Value} {below : List Frame} {meth : Method} {c : Code} {Q : State → Prop} {n0 s0 nf sf : Nat} {y0 : Fin 3} {y1 : Int32} {σ : xS} {q : Int32} {res : (Int32) ⊕ ((Unit) ⊕ (Unit))} (S : xSt E RX1 p m c cX1_isBare 3 s args meth (Option.some Jvm.ClassFile.FieldType.boolean)) (hf : LX1_isBare_2 y0 y1 σ q = some res) (hK : ∀ q, res = Sum.inl q → (∀ (H : Heap) (locs : List Loc) (cells slots : Nat) (ls : Array Slot), xR E σ H → va_S (xAA E) s.heap H locs → XN cells slots n0 s0 nf sf σ → lv_has ls 3 [(0, .ref (xnt E y0)), (1, .int y1), (2, .int q)] → W p l e (xRm 3 66 (nf - n0) (sf - s0)) s m args below meth c H locs cells slots Q (F0 m 2 ls []))) (hE31 : ∀ b, res = Sum.inr (Sum.inl b) → (∀ (H : Heap) (locs : List Loc) (cells slots : Nat) (ls : Array Slot), xR E σ H → va_S (xAA E) s.heap H locs → XN cells slots n0 s0 nf sf σ → lv_has ls 3 [] → W p l e (xRm 3 66 (nf - n0) (sf - s0)) s m args below meth c H locs cells slots Q (F0 m 31 ls []))) (hE39 : ∀ b, res = Sum.inr (Sum.inr b) → (∀ (H : Heap) (locs : List Loc) (cells slots : Nat) (ls : Array Slot), xR E σ H → va_S (xAA E) s.heap H locs → XN cells slots n0 s0 nf sf σ → lv_has ls 3 [(0, .ref (xnt E y0)), (1, .int y1)] → W p l e (xRm 3 66 (nf - n0) (sf - s0)) s m args below meth c H locs cells slots Q (F0 m 39 ls []))) : (∀ (H : Heap) (locs : List Loc) (cells slots : Nat) (ls : Array Slot), xR E σ H → va_S (xAA E) s.heap H locs → XN cells slots n0 s0 nf sf σ → lv_has ls 3 [(0, .ref (xnt E y0)), (1, .int y1), (2, .int q)] → W p l e (xRm 3 66 (nf - n0) (sf - s0)) s m args below meth c H locs cells slots Q (F0 m 2 ls [])) := by
  replace hf : (if (xN σ y0 2) ≤ q then some (Sum.inr (Sum.inr ())) else if (fX0_has y1 q) = (0 : Int32) then some (Sum.inl (q + (1 : Int32))) else (xla 1 σ (11 + 2 * y0.val) q).bind (fun v1 => if (v1 &&& (y1 ^^^ (-1 : Int32))) = (0 : Int32) then some (Sum.inr (Sum.inl ())) else some (Sum.inl (q + (1 : Int32))))) = some res := hf
  obtain ⟨hx, hb, hml, hown, hts⟩ := S.1.1
  intro H locs cells slots ls hR hS hn hl
  refine lv_iload_n hx hb dX1_isBare_2 rfl (lv_at hl 2 rfl) ?_
  refine lv_aload_n hx hb dX1_isBare_3 rfl (lv_at hl 0 rfl) ?_
  refine x_nget (j := y0) (k := 2) (v := .int (xN σ y0 2)) S hR (lk_X1_31 _ List.mem_cons_self) rfl dX1_isBare_4 ?_
  refine lv_icmp_ge (tgt := 39) hx hb dX1_isBare_7 (by decide) (fun c_7 => ?_) (fun c_7 => ?_)
  · replace hf := o_t hf c_7
    exact hE39 _ (Option.some.inj hf).symm _ _ _ _ _ hR hS hn (lv_sub (l' := [(0, .ref (xnt E y0)), (1, .int y1)]) hl [0, 1] rfl)
  · replace hf := o_f hf c_7
    refine lv_iload_n hx hb dX1_isBare_10 rfl (lv_at hl 1 rfl) ?_
    refine lv_iload_n hx hb dX1_isBare_11 rfl (lv_at hl 2 rfl) ?_
    refine s_callN (As := [.int y1, .int q]) (rest := []) S.1.1 S.2.2.1 (met_X0_has rfl) wi_X0_has q568 ⟨rfl, rfl⟩ ⟨Nat.le_of_ble_eq_true rfl, Nat.le_of_ble_eq_true rfl⟩ rfl hl.1 rfl (Nat.le_of_ble_eq_true rfl) dX1_isBare_12 hn.cs ?_
    refine lv_if_eq (tgt := 33) hx hb dX1_isBare_15 (by decide) (fun c_15 => ?_) (fun c_15 => ?_)
    · replace hf := o_t hf c_15
      refine lv_iinc (lv' := [(2, .int (q + (1 : Int32))), (0, .ref (xnt E y0)), (1, .int y1)]) hx hb dX1_isBare_33 hl (k := 2) rfl (m_inc (by decide)) (by decide) rfl (fun ls hl => ?_)
      refine lv_goto (tgt := 2) hx hb dX1_isBare_36 (by decide) ?_
      exact hK _ (Option.some.inj hf).symm _ _ _ _ _ hR hS hn (lv_sub (l' := [(0, .ref (xnt E y0)), (1, .int y1), (2, .int (q + (1 : Int32)))]) hl [1, 2, 0] rfl)
    · replace hf := o_f hf c_15
      refine lv_aload_n hx hb dX1_isBare_18 rfl (lv_at hl 0 rfl) ?_
      refine x_nget (j := y0) (k := 1) (v := .ref (xar E (11 + 2 * y0.val))) S hR (lk_X1_17 _ List.mem_cons_self) rfl dX1_isBare_19 ?_
      refine lv_iload_n hx hb dX1_isBare_22 rfl (lv_at hl 2 rfl) ?_
      refine k_bind hf (fun v1 hv1 hf => ?_)
      refine x_sl1 S hR hv1 dX1_isBare_23 ?_
      refine lv_iload_n hx hb dX1_isBare_24 rfl (lv_at hl 1 rfl) ?_
      refine lv_iconst (v := -1) hx hb dX1_isBare_25 (by decide) ?_
      refine lv_ixor hx hb dX1_isBare_26 ?_
      refine lv_iand hx hb dX1_isBare_27 ?_
      refine lv_if_ne (tgt := 33) hx hb dX1_isBare_28 (by decide) (fun c_28 => ?_) (fun c_28 => ?_)
      · replace hf := o_f hf c_28
        refine lv_iinc (lv' := [(2, .int (q + (1 : Int32))), (0, .ref (xnt E y0)), (1, .int y1)]) hx hb dX1_isBare_33 hl (k := 2) rfl (m_inc (by decide)) (by decide) rfl (fun ls hl => ?_)
        refine lv_goto (tgt := 2) hx hb dX1_isBare_36 (by decide) ?_
        exact hK _ (Option.some.inj hf).symm _ _ _ _ _ hR hS hn (lv_sub (l' := [(0, .ref (xnt E y0)), (1, .int y1), (2, .int (q + (1 : Int32)))]) hl [1, 2, 0] rfl)
      · replace hf := o_t hf c_28
        exact hE31 _ (Option.some.inj hf).symm _ _ _ _ _ hR hS hn (lv_sub (l' := []) hl [] rfl)
set_option maxHeartbeats 4000000 in
set_option maxRecDepth 100000 in
theorem wLX1_isBare_2 {l : Launch} {E : xG} {p : Program} {e : Env} {s : State} {m : MethodId} {args : Array Value} {below : List Frame} {meth : Method} {c : Code} {Q : State → Prop} {n0 s0 nf sf : Nat} {y0 : Fin 3} {y1 : Int32} {σ : xS} {q : Int32} {res : (Unit) ⊕ (Unit)} (S : xSt E RX1 p m c cX1_isBare 3 s args meth (Option.some Jvm.ClassFile.FieldType.boolean)) (h : lpw (LX1_isBare_2 y0 y1 σ) q = some res) (hE31 : ∀ b, res = (Sum.inl b) → (∀ (H : Heap) (locs : List Loc) (cells slots : Nat) (ls : Array Slot), xR E σ H → va_S (xAA E) s.heap H locs → XN cells slots n0 s0 nf sf σ → lv_has ls 3 [] → W p l e (xRm 3 66 (nf - n0) (sf - s0)) s m args below meth c H locs cells slots Q (F0 m 31 ls []))) (hE39 : ∀ b, res = (Sum.inr b) → (∀ (H : Heap) (locs : List Loc) (cells slots : Nat) (ls : Array Slot), xR E σ H → va_S (xAA E) s.heap H locs → XN cells slots n0 s0 nf sf σ → lv_has ls 3 [(0, .ref (xnt E y0)), (1, .int y1)] → W p l e (xRm 3 66 (nf - n0) (sf - s0)) s m args below meth c H locs cells slots Q (F0 m 39 ls []))) : (∀ (H : Heap) (locs : List Loc) (cells slots : Nat) (ls : Array Slot), xR E σ H → va_S (xAA E) s.heap H locs → XN cells slots n0 s0 nf sf σ → lv_has ls 3 [(0, .ref (xnt E y0)), (1, .int y1), (2, .int q)] → W p l e (xRm 3 66 (nf - n0) (sf - s0)) s m args below meth c H locs cells slots Q (F0 m 2 ls [])) :=
  lpw_go _ (fun q => (∀ (H : Heap) (locs : List Loc) (cells slots : Nat) (ls : Array Slot), xR E σ H → va_S (xAA E) s.heap H locs → XN cells slots n0 s0 nf sf σ → lv_has ls 3 [(0, .ref (xnt E y0)), (1, .int y1), (2, .int q)] → W p l e (xRm 3 66 (nf - n0) (sf - s0)) s m args below meth c H locs cells slots Q (F0 m 2 ls []))) (fun b0 => (∀ b, b0 = (Sum.inl b) → (∀ (H : Heap) (locs : List Loc) (cells slots : Nat) (ls : Array Slot), xR E σ H → va_S (xAA E) s.heap H locs → XN cells slots n0 s0 nf sf σ → lv_has ls 3 [] → W p l e (xRm 3 66 (nf - n0) (sf - s0)) s m args below meth c H locs cells slots Q (F0 m 31 ls []))) ∧ (∀ b, b0 = (Sum.inr b) → (∀ (H : Heap) (locs : List Loc) (cells slots : Nat) (ls : Array Slot), xR E σ H → va_S (xAA E) s.heap H locs → XN cells slots n0 s0 nf sf σ → lv_has ls 3 [(0, .ref (xnt E y0)), (1, .int y1)] → W p l e (xRm 3 66 (nf - n0) (sf - s0)) s m args below meth c H locs cells slots Q (F0 m 39 ls [])))) (fun q x hf hK hX => wbLX1_isBare_2 S hf hK (fun b eb => (hX _ eb).1 b rfl) (fun b eb => (hX _ eb).2 b rfl)) q res h ⟨hE31, hE39⟩
set_option maxHeartbeats 4000000 in
set_option maxRecDepth 100000 in
theorem met_X1_isBare {l : Launch} {E : xG} {j : Fin 3} {x1 : Int32} {σ : xS} {res : Int32} (hf : fX1_isBare j x1 σ = some res) : xMet l yX1_isBare cX1_isBare 3 (Option.some Jvm.ClassFile.FieldType.boolean) 3 66 E [.ref (xnt E j), .int x1] σ (some (.int res)) σ := by
  replace hf : ((lpw (LX1_isBare_2 j x1 σ) (0 : Int32)).bind ((fun e => Sum.elim (fun b3 => some (0 : Int32)) (fun b4 => (fX1_isCover j x1 σ).bind (fun v5 => some (v5 &&& 1))) e))) = some res := hf
  refine x_start (by decide) (Nat.le_of_ble_eq_true rfl) ?_
  intro p e s m args below meth c S hnm hR hS ls hl
  obtain ⟨hx, hb, hml, hown, hts⟩ := S.1.1
  have hl : lv_has ls 3 [(0, .ref (xnt E j)), (1, .int x1)] := hl
  have hn : XN 0 0 (xnx σ) (xns σ) (xnx σ) (xns σ) σ := ⟨Nat.zero_add _, Nat.zero_add _, (rl1.rf σ).1, (rl1.rf σ).2⟩
  refine lv_iconst (v := 0) hx hb dX1_isBare_0 (by decide) ?_
  refine lv_istore_n (lv' := [(2, .int (0 : Int32)), (0, .ref (xnt E j)), (1, .int x1)]) hx hb dX1_isBare_1 rfl hl (by decide) rfl (fun ls hl => ?_)
  refine k_bind hf (fun b2 hb2 hf => ?_)
  refine wLX1_isBare_2 S hb2 ?_ ?_ _ _ _ _ _ hR hS hn (lv_sub (l' := [(0, .ref (xnt E j)), (1, .int x1), (2, .int (0 : Int32))]) hl [1, 2, 0] rfl)
  · intro b3 eb; subst eb; intro H locs cells slots ls hR hS hn hl
    replace hf := o_l hf
    refine lv_iconst (v := 0) hx hb dX1_isBare_31 (by decide) ?_
    obtain rfl := Option.some.inj hf
    exact x_iret S hR hS hn rfl dX1_isBare_32
  · intro b4 eb; subst eb; intro H locs cells slots ls hR hS hn hl
    replace hf := o_r hf
    refine lv_aload_n hx hb dX1_isBare_39 rfl (lv_at hl 0 rfl) ?_
    refine lv_iload_n hx hb dX1_isBare_40 rfl (lv_at hl 1 rfl) ?_
    refine k_bind hf (fun v5 hv5 hf => ?_)
    refine x_call (C := RX1) (As := [.int x1]) (rest := []) S hR hS hn (met_X1_isCover hv5) (rl1.rf _) (hn.b (rl0.rf _)) wi_X1_isCover (xrc S.2 hR (ci := 1) rfl (Or.inr (Or.inl ⟨_, rfl, rfl⟩))) rfl q671 ⟨Nat.le_of_ble_eq_true rfl, Nat.le_of_ble_eq_true rfl⟩ rfl hl.1 rfl (Nat.le_of_ble_eq_true rfl) dX1_isBare_41 (fun H locs cells slots hR hS hn => ?_)
    obtain rfl := Option.some.inj hf
    exact x_iret S hR hS hn rfl dX1_isBare_44


noncomputable def fX0_isCover (x1 : Int32) (σ : xS) : Option (Int32) :=
  (fX0_areSet x1 σ).bind (fun v1 => if v1 = (0 : Int32) then some (-2 : Int32) else (fX1_isBare (0 : Fin 3) x1 σ).bind (fun v2 => if v2 = (0 : Int32) then (fX1_isCover (0 : Fin 3) x1 σ).bind (fun v3 => if v3 = (0 : Int32) then some (0 : Int32) else some (1 : Int32)) else some (2 : Int32)))
theorem wi_X0_isCover : wInfV yX0_isCover cX0_isCover 2 (Option.some Jvm.ClassFile.FieldType.int) 1 := ⟨q656, q657, q106, q658, (by decide +kernel), (by decide +kernel), (by decide +kernel)⟩
set_option maxHeartbeats 4000000 in
set_option maxRecDepth 100000 in
theorem met_X0_isCover {l : Launch} {E : xG} {x1 : Int32} {σ : xS} {res : Int32} (hf : fX0_isCover x1 σ = some res) : xMet l yX0_isCover cX0_isCover 2 (Option.some Jvm.ClassFile.FieldType.int) 4 88 E [.ref (xo E), .int x1] σ (some (.int res)) σ := by
  replace hf : ((fX0_areSet x1 σ).bind (fun v1 => if v1 = (0 : Int32) then some (-2 : Int32) else (fX1_isBare (0 : Fin 3) x1 σ).bind (fun v2 => if v2 = (0 : Int32) then (fX1_isCover (0 : Fin 3) x1 σ).bind (fun v3 => if v3 = (0 : Int32) then some (0 : Int32) else some (1 : Int32)) else some (2 : Int32)))) = some res := hf
  refine x_start (by decide) (Nat.le_of_ble_eq_true rfl) ?_
  intro p e s m args below meth c S hnm hR hS ls hl
  obtain ⟨hx, hb, hml, hown, hts⟩ := S.1.1
  have hl : lv_has ls 2 [(0, .ref (xo E)), (1, .int x1)] := hl
  have hn : XN 0 0 (xnx σ) (xns σ) (xnx σ) (xns σ) σ := ⟨Nat.zero_add _, Nat.zero_add _, (rl1.rf σ).1, (rl1.rf σ).2⟩
  refine lv_aload_n hx hb dX0_isCover_0 rfl (lv_at hl 0 rfl) ?_
  refine lv_iload_n hx hb dX0_isCover_1 rfl (lv_at hl 1 rfl) ?_
  refine k_bind hf (fun v1 hv1 hf => ?_)
  refine x_call (C := RX0) (As := [.int x1]) (rest := []) S hR hS hn (met_X0_areSet hv1) (rl1.rf _) (hn.b (rl0.rf _)) wi_X0_areSet (xrc S.2 hR (ci := 0) rfl (Or.inl ⟨rfl, rfl⟩)) rfl q659 ⟨Nat.le_of_ble_eq_true rfl, Nat.le_of_ble_eq_true rfl⟩ rfl hl.1 rfl (Nat.le_of_ble_eq_true rfl) dX0_isCover_2 (fun H locs cells slots hR hS hn => ?_)
  refine lv_if_ne (tgt := 11) hx hb dX0_isCover_5 (by decide) (fun c_5 => ?_) (fun c_5 => ?_)
  · replace hf := o_f hf c_5
    refine lv_aload_n hx hb dX0_isCover_11 rfl (lv_at hl 0 rfl) ?_
    refine x_oget (k := 0) (v := .ref (xnt E (0 : Fin 3))) S hR (lk_X0_10 _ List.mem_cons_self) rfl dX0_isCover_12 ?_
    refine lv_iload_n hx hb dX0_isCover_15 rfl (lv_at hl 1 rfl) ?_
    refine k_bind hf (fun v2 hv2 hf => ?_)
    refine x_call (C := RX1) (As := [.int x1]) (rest := []) S hR hS hn (met_X1_isBare hv2) (rl1.rf _) (hn.b (rl0.rf _)) wi_X1_isBare (xrc S.2 hR (ci := 1) rfl (Or.inr (Or.inl ⟨_, rfl, rfl⟩))) rfl q667 ⟨Nat.le_of_ble_eq_true rfl, Nat.le_of_ble_eq_true rfl⟩ rfl hl.1 rfl (Nat.le_of_ble_eq_true rfl) dX0_isCover_16 (fun H locs cells slots hR hS hn => ?_)
    refine lv_if_eq (tgt := 26) hx hb dX0_isCover_19 (by decide) (fun c_19 => ?_) (fun c_19 => ?_)
    · replace hf := o_t hf c_19
      refine lv_aload_n hx hb dX0_isCover_26 rfl (lv_at hl 0 rfl) ?_
      refine x_oget (k := 0) (v := .ref (xnt E (0 : Fin 3))) S hR (lk_X0_10 _ List.mem_cons_self) rfl dX0_isCover_27 ?_
      refine lv_iload_n hx hb dX0_isCover_30 rfl (lv_at hl 1 rfl) ?_
      refine k_bind hf (fun v3 hv3 hf => ?_)
      refine x_call (C := RX1) (As := [.int x1]) (rest := []) S hR hS hn (met_X1_isCover hv3) (rl1.rf _) (hn.b (rl0.rf _)) wi_X1_isCover (xrc S.2 hR (ci := 1) rfl (Or.inr (Or.inl ⟨_, rfl, rfl⟩))) rfl q680 ⟨Nat.le_of_ble_eq_true rfl, Nat.le_of_ble_eq_true rfl⟩ rfl hl.1 rfl (Nat.le_of_ble_eq_true rfl) dX0_isCover_31 (fun H locs cells slots hR hS hn => ?_)
      refine lv_if_eq (tgt := 41) hx hb dX0_isCover_34 (by decide) (fun c_34 => ?_) (fun c_34 => ?_)
      · replace hf := o_t hf c_34
        refine lv_iconst (v := 0) hx hb dX0_isCover_41 (by decide) ?_
        obtain rfl := Option.some.inj hf
        exact x_iret S hR hS hn rfl dX0_isCover_42
      · replace hf := o_f hf c_34
        refine lv_iconst (v := 1) hx hb dX0_isCover_37 (by decide) ?_
        refine lv_goto (tgt := 42) hx hb dX0_isCover_38 (by decide) ?_
        obtain rfl := Option.some.inj hf
        exact x_iret S hR hS hn rfl dX0_isCover_42
    · replace hf := o_f hf c_19
      refine lv_iconst (v := 2) hx hb dX0_isCover_22 (by decide) ?_
      refine lv_goto (tgt := 42) hx hb dX0_isCover_23 (by decide) ?_
      obtain rfl := Option.some.inj hf
      exact x_iret S hR hS hn rfl dX0_isCover_42
  · replace hf := o_t hf c_5
    refine lv_bipush (v := -2) hx hb dX0_isCover_8 (by decide) ?_
    obtain rfl := Option.some.inj hf
    exact x_iret S hR hS hn rfl dX0_isCover_10


noncomputable def LX1_costOf_4 (y0 : Fin 3) (y1 : Int32) (σ : xS) (q : Int32 × Int32) : Option ((Int32 × Int32) ⊕ (Int32)) :=
  if (xN σ y0 2) ≤ q.2 then some (Sum.inr q.1) else if (fX0_has y1 q.2) = (0 : Int32) then (some (q.1 + (0 : Int32))).bind (fun v1 => some (Sum.inl (v1, q.2 + (1 : Int32)))) else (fX1_cost y0 q.2 σ).bind (fun v2 => (some (q.1 + v2)).bind (fun v3 => some (Sum.inl (v3, q.2 + (1 : Int32)))))
noncomputable def fX1_costOf (j : Fin 3) (x1 : Int32) (σ : xS) : Option (Int32) :=
  (lpw (LX1_costOf_4 j x1 σ) ((0 : Int32), (0 : Int32))).bind (fun b4 => some b4)
theorem wi_X1_costOf : wInfV yX1_costOf cX1_costOf 4 (Option.some Jvm.ClassFile.FieldType.int) 1 := ⟨q686, q687, q107, q688, (by decide +kernel), (by decide +kernel), (by decide +kernel)⟩
set_option maxHeartbeats 4000000 in
set_option maxRecDepth 100000 in
theorem wbLX1_costOf_4 {l : Launch} {E : xG} {p : Program} {e : Env} {s : State} {m : MethodId} {args : Array Value} {below : List Frame} {meth : Method} {c : Code} {Q : State → Prop} {n0 s0 nf sf : Nat} {y0 : Fin 3} {y1 : Int32} {σ : xS} {q : Int32 × Int32} {res : (Int32 × Int32) ⊕ (Int32)} (S : xSt E RX1 p m c cX1_costOf 4 s args meth (Option.some Jvm.ClassFile.FieldType.int)) (hf : LX1_costOf_4 y0 y1 σ q = some res) (hK : ∀ q, res = Sum.inl q → (∀ (H : Heap) (locs : List Loc) (cells slots : Nat) (ls : Array Slot), xR E σ H → va_S (xAA E) s.heap H locs → XN cells slots n0 s0 nf sf σ → lv_has ls 4 [(0, .ref (xnt E y0)), (1, .int y1), (2, .int q.1), (3, .int q.2)] → W p l e (xRm 3 61 (nf - n0) (sf - s0)) s m args below meth c H locs cells slots Q (F0 m 4 ls []))) (hE38 : ∀ b, res = Sum.inr b → (∀ (H : Heap) (locs : List Loc) (cells slots : Nat) (ls : Array Slot), xR E σ H → va_S (xAA E) s.heap H locs → XN cells slots n0 s0 nf sf σ → lv_has ls 4 [(2, .int b)] → W p l e (xRm 3 61 (nf - n0) (sf - s0)) s m args below meth c H locs cells slots Q (F0 m 38 ls []))) : (∀ (H : Heap) (locs : List Loc) (cells slots : Nat) (ls : Array Slot), xR E σ H → va_S (xAA E) s.heap H locs → XN cells slots n0 s0 nf sf σ → lv_has ls 4 [(0, .ref (xnt E y0)), (1, .int y1), (2, .int q.1), (3, .int q.2)] → W p l e (xRm 3 61 (nf - n0) (sf - s0)) s m args below meth c H locs cells slots Q (F0 m 4 ls [])) := by
  replace hf : (if (xN σ y0 2) ≤ q.2 then some (Sum.inr q.1) else if (fX0_has y1 q.2) = (0 : Int32) then (some (q.1 + (0 : Int32))).bind (fun v1 => some (Sum.inl (v1, q.2 + (1 : Int32)))) else (fX1_cost y0 q.2 σ).bind (fun v2 => (some (q.1 + v2)).bind (fun v3 => some (Sum.inl (v3, q.2 + (1 : Int32)))))) = some res := hf
  obtain ⟨hx, hb, hml, hown, hts⟩ := S.1.1
  intro H locs cells slots ls hR hS hn hl
  refine lv_iload_n hx hb dX1_costOf_4 rfl (lv_at hl 3 rfl) ?_
  refine lv_aload_n hx hb dX1_costOf_5 rfl (lv_at hl 0 rfl) ?_
  refine x_nget (j := y0) (k := 2) (v := .int (xN σ y0 2)) S hR (lk_X1_31 _ List.mem_cons_self) rfl dX1_costOf_6 ?_
  refine lv_icmp_ge (tgt := 38) hx hb dX1_costOf_9 (by decide) (fun c_9 => ?_) (fun c_9 => ?_)
  · replace hf := o_t hf c_9
    exact hE38 _ (Option.some.inj hf).symm _ _ _ _ _ hR hS hn (lv_sub (l' := [(2, .int q.1)]) hl [2] rfl)
  · replace hf := o_f hf c_9
    refine lv_iload_n hx hb dX1_costOf_12 rfl (lv_at hl 2 rfl) ?_
    refine lv_iload_n hx hb dX1_costOf_13 rfl (lv_at hl 1 rfl) ?_
    refine lv_iload_n hx hb dX1_costOf_14 rfl (lv_at hl 3 rfl) ?_
    refine s_callN (As := [.int y1, .int q.2]) (rest := [.int q.1]) S.1.1 S.2.2.1 (met_X0_has rfl) wi_X0_has q568 ⟨rfl, rfl⟩ ⟨Nat.le_of_ble_eq_true rfl, Nat.le_of_ble_eq_true rfl⟩ rfl hl.1 rfl (Nat.le_of_ble_eq_true rfl) dX1_costOf_15 hn.cs ?_
    refine lv_if_eq (tgt := 29) hx hb dX1_costOf_18 (by decide) (fun c_18 => ?_) (fun c_18 => ?_)
    · replace hf := o_t hf c_18
      refine lv_iconst (v := 0) hx hb dX1_costOf_29 (by decide) ?_
      refine lv_iadd hx hb dX1_costOf_30 ?_
      refine k_bind hf (fun v1 hv1 hf => ?_)
      refine m_nmi hv1 ?_
      refine lv_istore_n (lv' := [(2, .int v1), (0, .ref (xnt E y0)), (1, .int y1), (3, .int q.2)]) hx hb dX1_costOf_31 rfl hl (by decide) rfl (fun ls hl => ?_)
      refine lv_iinc (lv' := [(3, .int (q.2 + (1 : Int32))), (2, .int v1), (0, .ref (xnt E y0)), (1, .int y1)]) hx hb dX1_costOf_32 hl (k := 3) rfl (m_inc (by decide)) (by decide) rfl (fun ls hl => ?_)
      refine lv_goto (tgt := 4) hx hb dX1_costOf_35 (by decide) ?_
      exact hK _ (Option.some.inj hf).symm _ _ _ _ _ hR hS hn (lv_sub (l' := [(0, .ref (xnt E y0)), (1, .int y1), (2, .int v1), (3, .int (q.2 + (1 : Int32)))]) hl [2, 3, 1, 0] rfl)
    · replace hf := o_f hf c_18
      refine lv_aload_n hx hb dX1_costOf_21 rfl (lv_at hl 0 rfl) ?_
      refine lv_iload_n hx hb dX1_costOf_22 rfl (lv_at hl 3 rfl) ?_
      refine k_bind hf (fun v2 hv2 hf => ?_)
      refine x_call (C := RX1) (As := [.int q.2]) (rest := [.int q.1]) S hR hS hn (met_X1_cost hv2) (rl1.rf _) (hn.b (rl0.rf _)) wi_X1_cost (xrc S.2 hR (ci := 1) rfl (Or.inr (Or.inl ⟨_, rfl, rfl⟩))) rfl q689 ⟨Nat.le_of_ble_eq_true rfl, Nat.le_of_ble_eq_true rfl⟩ rfl hl.1 rfl (Nat.le_of_ble_eq_true rfl) dX1_costOf_23 (fun H locs cells slots hR hS hn => ?_)
      refine lv_goto (tgt := 30) hx hb dX1_costOf_26 (by decide) ?_
      refine lv_iadd hx hb dX1_costOf_30 ?_
      refine k_bind hf (fun v3 hv3 hf => ?_)
      refine m_nmi hv3 ?_
      refine lv_istore_n (lv' := [(2, .int v3), (0, .ref (xnt E y0)), (1, .int y1), (3, .int q.2)]) hx hb dX1_costOf_31 rfl hl (by decide) rfl (fun ls hl => ?_)
      refine lv_iinc (lv' := [(3, .int (q.2 + (1 : Int32))), (2, .int v3), (0, .ref (xnt E y0)), (1, .int y1)]) hx hb dX1_costOf_32 hl (k := 3) rfl (m_inc (by decide)) (by decide) rfl (fun ls hl => ?_)
      refine lv_goto (tgt := 4) hx hb dX1_costOf_35 (by decide) ?_
      exact hK _ (Option.some.inj hf).symm _ _ _ _ _ hR hS hn (lv_sub (l' := [(0, .ref (xnt E y0)), (1, .int y1), (2, .int v3), (3, .int (q.2 + (1 : Int32)))]) hl [2, 3, 1, 0] rfl)
set_option maxHeartbeats 4000000 in
set_option maxRecDepth 100000 in
theorem wLX1_costOf_4 {l : Launch} {E : xG} {p : Program} {e : Env} {s : State} {m : MethodId} {args : Array Value} {below : List Frame} {meth : Method} {c : Code} {Q : State → Prop} {n0 s0 nf sf : Nat} {y0 : Fin 3} {y1 : Int32} {σ : xS} {q : Int32 × Int32} {res : Int32} (S : xSt E RX1 p m c cX1_costOf 4 s args meth (Option.some Jvm.ClassFile.FieldType.int)) (h : lpw (LX1_costOf_4 y0 y1 σ) q = some res) (hE38 : ∀ b, res = b → (∀ (H : Heap) (locs : List Loc) (cells slots : Nat) (ls : Array Slot), xR E σ H → va_S (xAA E) s.heap H locs → XN cells slots n0 s0 nf sf σ → lv_has ls 4 [(2, .int b)] → W p l e (xRm 3 61 (nf - n0) (sf - s0)) s m args below meth c H locs cells slots Q (F0 m 38 ls []))) : (∀ (H : Heap) (locs : List Loc) (cells slots : Nat) (ls : Array Slot), xR E σ H → va_S (xAA E) s.heap H locs → XN cells slots n0 s0 nf sf σ → lv_has ls 4 [(0, .ref (xnt E y0)), (1, .int y1), (2, .int q.1), (3, .int q.2)] → W p l e (xRm 3 61 (nf - n0) (sf - s0)) s m args below meth c H locs cells slots Q (F0 m 4 ls [])) :=
  lpw_go _ (fun q => (∀ (H : Heap) (locs : List Loc) (cells slots : Nat) (ls : Array Slot), xR E σ H → va_S (xAA E) s.heap H locs → XN cells slots n0 s0 nf sf σ → lv_has ls 4 [(0, .ref (xnt E y0)), (1, .int y1), (2, .int q.1), (3, .int q.2)] → W p l e (xRm 3 61 (nf - n0) (sf - s0)) s m args below meth c H locs cells slots Q (F0 m 4 ls []))) (fun b0 => (∀ b, b0 = b → (∀ (H : Heap) (locs : List Loc) (cells slots : Nat) (ls : Array Slot), xR E σ H → va_S (xAA E) s.heap H locs → XN cells slots n0 s0 nf sf σ → lv_has ls 4 [(2, .int b)] → W p l e (xRm 3 61 (nf - n0) (sf - s0)) s m args below meth c H locs cells slots Q (F0 m 38 ls [])))) (fun q x hf hK hX => wbLX1_costOf_4 S hf hK (fun b eb => (hX _ eb) b rfl)) q res h hE38
set_option maxHeartbeats 4000000 in
set_option maxRecDepth 100000 in
theorem met_X1_costOf {l : Launch} {E : xG} {j : Fin 3} {x1 : Int32} {σ : xS} {res : Int32} (hf : fX1_costOf j x1 σ = some res) : xMet l yX1_costOf cX1_costOf 4 (Option.some Jvm.ClassFile.FieldType.int) 3 61 E [.ref (xnt E j), .int x1] σ (some (.int res)) σ := by
  replace hf : ((lpw (LX1_costOf_4 j x1 σ) ((0 : Int32), (0 : Int32))).bind (fun b4 => some b4)) = some res := hf
  refine x_start (by decide) (Nat.le_of_ble_eq_true rfl) ?_
  intro p e s m args below meth c S hnm hR hS ls hl
  obtain ⟨hx, hb, hml, hown, hts⟩ := S.1.1
  have hl : lv_has ls 4 [(0, .ref (xnt E j)), (1, .int x1)] := hl
  have hn : XN 0 0 (xnx σ) (xns σ) (xnx σ) (xns σ) σ := ⟨Nat.zero_add _, Nat.zero_add _, (rl1.rf σ).1, (rl1.rf σ).2⟩
  refine lv_iconst (v := 0) hx hb dX1_costOf_0 (by decide) ?_
  refine lv_istore_n (lv' := [(2, .int (0 : Int32)), (0, .ref (xnt E j)), (1, .int x1)]) hx hb dX1_costOf_1 rfl hl (by decide) rfl (fun ls hl => ?_)
  refine lv_iconst (v := 0) hx hb dX1_costOf_2 (by decide) ?_
  refine lv_istore_n (lv' := [(3, .int (0 : Int32)), (2, .int (0 : Int32)), (0, .ref (xnt E j)), (1, .int x1)]) hx hb dX1_costOf_3 rfl hl (by decide) rfl (fun ls hl => ?_)
  refine k_bind hf (fun b4 hb4 hf => ?_)
  refine wLX1_costOf_4 S hb4 ?_ _ _ _ _ _ hR hS hn (lv_sub (l' := [(0, .ref (xnt E j)), (1, .int x1), (2, .int (0 : Int32)), (3, .int (0 : Int32))]) hl [2, 3, 1, 0] rfl)
  · intro b eb; subst eb; intro H locs cells slots ls hR hS hn hl
    refine lv_iload_n hx hb dX1_costOf_38 rfl (lv_at hl 0 rfl) ?_
    obtain rfl := Option.some.inj hf
    exact x_iret S hR hS hn rfl dX1_costOf_39


noncomputable def fX0_costOf (x1 : Int32) (σ : xS) : Option (Int32) :=
  (fX0_areSet x1 σ).bind (fun v1 => if v1 = (0 : Int32) then some (-2 : Int32) else (fX1_costOf (0 : Fin 3) x1 σ).bind (fun v2 => some v2))
theorem wi_X0_costOf : wInfV yX0_costOf cX0_costOf 2 (Option.some Jvm.ClassFile.FieldType.int) 1 := ⟨q682, q683, q106, q684, (by decide +kernel), (by decide +kernel), (by decide +kernel)⟩
set_option maxHeartbeats 4000000 in
set_option maxRecDepth 100000 in
theorem met_X0_costOf {l : Launch} {E : xG} {x1 : Int32} {σ : xS} {res : Int32} (hf : fX0_costOf x1 σ = some res) : xMet l yX0_costOf cX0_costOf 2 (Option.some Jvm.ClassFile.FieldType.int) 4 84 E [.ref (xo E), .int x1] σ (some (.int res)) σ := by
  replace hf : ((fX0_areSet x1 σ).bind (fun v1 => if v1 = (0 : Int32) then some (-2 : Int32) else (fX1_costOf (0 : Fin 3) x1 σ).bind (fun v2 => some v2))) = some res := hf
  refine x_start (by decide) (Nat.le_of_ble_eq_true rfl) ?_
  intro p e s m args below meth c S hnm hR hS ls hl
  obtain ⟨hx, hb, hml, hown, hts⟩ := S.1.1
  have hl : lv_has ls 2 [(0, .ref (xo E)), (1, .int x1)] := hl
  have hn : XN 0 0 (xnx σ) (xns σ) (xnx σ) (xns σ) σ := ⟨Nat.zero_add _, Nat.zero_add _, (rl1.rf σ).1, (rl1.rf σ).2⟩
  refine lv_aload_n hx hb dX0_costOf_0 rfl (lv_at hl 0 rfl) ?_
  refine lv_iload_n hx hb dX0_costOf_1 rfl (lv_at hl 1 rfl) ?_
  refine k_bind hf (fun v1 hv1 hf => ?_)
  refine x_call (C := RX0) (As := [.int x1]) (rest := []) S hR hS hn (met_X0_areSet hv1) (rl1.rf _) (hn.b (rl0.rf _)) wi_X0_areSet (xrc S.2 hR (ci := 0) rfl (Or.inl ⟨rfl, rfl⟩)) rfl q659 ⟨Nat.le_of_ble_eq_true rfl, Nat.le_of_ble_eq_true rfl⟩ rfl hl.1 rfl (Nat.le_of_ble_eq_true rfl) dX0_costOf_2 (fun H locs cells slots hR hS hn => ?_)
  refine lv_if_eq (tgt := 19) hx hb dX0_costOf_5 (by decide) (fun c_5 => ?_) (fun c_5 => ?_)
  · replace hf := o_t hf c_5
    refine lv_bipush (v := -2) hx hb dX0_costOf_19 (by decide) ?_
    obtain rfl := Option.some.inj hf
    exact x_iret S hR hS hn rfl dX0_costOf_21
  · replace hf := o_f hf c_5
    refine lv_aload_n hx hb dX0_costOf_8 rfl (lv_at hl 0 rfl) ?_
    refine x_oget (k := 0) (v := .ref (xnt E (0 : Fin 3))) S hR (lk_X0_10 _ List.mem_cons_self) rfl dX0_costOf_9 ?_
    refine lv_iload_n hx hb dX0_costOf_12 rfl (lv_at hl 1 rfl) ?_
    refine k_bind hf (fun v2 hv2 hf => ?_)
    refine x_call (C := RX1) (As := [.int x1]) (rest := []) S hR hS hn (met_X1_costOf hv2) (rl1.rf _) (hn.b (rl0.rf _)) wi_X1_costOf (xrc S.2 hR (ci := 1) rfl (Or.inr (Or.inl ⟨_, rfl, rfl⟩))) rfl q685 ⟨Nat.le_of_ble_eq_true rfl, Nat.le_of_ble_eq_true rfl⟩ rfl hl.1 rfl (Nat.le_of_ble_eq_true rfl) dX0_costOf_13 (fun H locs cells slots hR hS hn => ?_)
    refine lv_goto (tgt := 21) hx hb dX0_costOf_16 (by decide) ?_
    obtain rfl := Option.some.inj hf
    exact x_iret S hR hS hn rfl dX0_costOf_21


noncomputable def fX0_fewest (x1 : Int32) (σ : xS) : Option (Int32) :=
  if (fX0_in x1 (0 : Int32) (4 : Int32)) = (0 : Int32) then some (-2 : Int32) else none
theorem wi_X0_fewest : wInfV yX0_fewest cX0_fewest 3 (Option.some Jvm.ClassFile.FieldType.int) 1 := ⟨q691, q692, q106, q693, (by decide +kernel), (by decide +kernel), (by decide +kernel)⟩
set_option maxHeartbeats 4000000 in
set_option maxRecDepth 100000 in
theorem met_X0_fewest {l : Launch} {E : xG} {x1 : Int32} {σ : xS} {res : Int32} (hf : fX0_fewest x1 σ = some res) : xMet l yX0_fewest cX0_fewest 3 (Option.some Jvm.ClassFile.FieldType.int) 1 22 E [.ref (xo E), .int x1] σ (some (.int res)) σ := by
  replace hf : (if (fX0_in x1 (0 : Int32) (4 : Int32)) = (0 : Int32) then some (-2 : Int32) else none) = some res := hf
  refine x_start (by decide) (Nat.le_of_ble_eq_true rfl) ?_
  intro p e s m args below meth c S hnm hR hS ls hl
  obtain ⟨hx, hb, hml, hown, hts⟩ := S.1.1
  have hl : lv_has ls 3 [(0, .ref (xo E)), (1, .int x1)] := hl
  have hn : XN 0 0 (xnx σ) (xns σ) (xnx σ) (xns σ) σ := ⟨Nat.zero_add _, Nat.zero_add _, (rl1.rf σ).1, (rl1.rf σ).2⟩
  refine lv_iload_n hx hb dX0_fewest_0 rfl (lv_at hl 1 rfl) ?_
  refine lv_iconst (v := 0) hx hb dX0_fewest_1 (by decide) ?_
  refine lv_iconst (v := 4) hx hb dX0_fewest_2 (by decide) ?_
  refine s_call (As := [.int x1, .int (0 : Int32), .int (4 : Int32)]) (rest := []) S.1.1 (met_X0_in rfl) wi_X0_in q479 ⟨rfl, rfl⟩ ⟨Nat.le_of_ble_eq_true rfl, Nat.le_of_ble_eq_true rfl⟩ rfl hl.1 rfl (Nat.le_of_ble_eq_true rfl) dX0_fewest_3 hn.cs ?_
  refine lv_if_ne (tgt := 12) hx hb dX0_fewest_6 (by decide) (fun c_6 => ?_) (fun c_6 => ?_)
  · replace hf := o_f hf c_6
    refine lv_aload_n hx hb dX0_fewest_12 rfl (lv_at hl 0 rfl) ?_
    cases hf
  · replace hf := o_t hf c_6
    refine lv_bipush (v := -2) hx hb dX0_fewest_9 (by decide) ?_
    obtain rfl := Option.some.inj hf
    exact x_iret S hR hS hn rfl dX0_fewest_11

theorem lk_X11_7 : ∀ q ∈ ([(10, 2), (11, 2)] : List (Nat × Nat)), wLk RX11 7 q.1 q.2 := List.forall_mem_cons.mpr ⟨⟨RX13, TX13, 9, "LinesTouched$Walk", rfl, by decide, in_X13, q726, Or.inl rfl⟩, List.forall_mem_cons.mpr ⟨⟨RX14, TX14, 4, "LinesTouched$Walk", rfl, by decide, in_X14, q726, Or.inl rfl⟩, fun _ h => absurd h List.not_mem_nil⟩⟩
theorem pt_X11_7 : ∀ q ∈ ([(10, 2), (11, 2)] : List (Nat × Nat)), wLk RX11 7 q.1 q.2 ∧ wPt q.1 q.2 (.object "LinesTouched$Net") true RX11 := List.forall_mem_cons.mpr ⟨⟨⟨RX13, TX13, 9, "LinesTouched$Walk", rfl, by decide, in_X13, q726, Or.inl rfl⟩, ⟨RX13, TX13, 9, tyX13, rfl, by decide, rfl, by decide +kernel, nmX13, tyX13_ok, fun _ => rfl⟩⟩, List.forall_mem_cons.mpr ⟨⟨⟨RX14, TX14, 4, "LinesTouched$Walk", rfl, by decide, in_X14, q726, Or.inl rfl⟩, ⟨RX14, TX14, 4, tyX14, rfl, by decide, rfl, by decide +kernel, nmX14, tyX14_ok, fun _ => rfl⟩⟩, fun _ h => absurd h List.not_mem_nil⟩⟩
noncomputable def fX11_init (a : Nat) (x1 : Fin 3) (σ : xS) : Option (xS) :=
  (xp σ [(10, 2), (11, 2)] a (.ref (xnt E x1))).bind (fun σ1 => some σ1)
theorem wi_X11_init : wInfI yX11_init cX11_init 2 1 := ⟨q707, q124, q708, rfl, (by decide +kernel), (by decide +kernel), (by decide +kernel)⟩
set_option maxHeartbeats 4000000 in
set_option maxRecDepth 100000 in
theorem r0_X11_init {a : Nat} {x1 : Fin 3} {σ : xS} {res : xS} (hf : fX11_init a x1 σ = some res) : rl0 σ res := by
  replace hf : ((xp σ [(10, 2), (11, 2)] a (.ref (xnt E x1))).bind (fun σ1 => some σ1)) = some res := hf
  refine k_bind hf (fun σ1 hσ1 hf => ?_)
  refine rl0.tr (r0_p hσ1) ?_
  obtain rfl := Option.some.inj hf
  exact rl0.rf _
set_option maxHeartbeats 4000000 in
set_option maxRecDepth 100000 in
theorem met_X11_init {l : Launch} {E : xG} {a : Nat} {x1 : Fin 3} {σ : xS} {res : xS} (hf : fX11_init a x1 σ = some res) : xMet l yX11_init cX11_init 2 (Option.none : Option Jvm.ClassFile.FieldType) 1 24 E [.ref a, .ref (xnt E x1)] σ none res := by
  replace hf : ((xp σ [(10, 2), (11, 2)] a (.ref (xnt E x1))).bind (fun σ1 => some σ1)) = some res := hf
  refine x_start (by decide) (Nat.le_of_ble_eq_true rfl) ?_
  intro p e s m args below meth c S hnm hR hS ls hl
  obtain ⟨hx, hb, hml, hown, hts⟩ := S.1.1
  have hl : lv_has ls 2 [(0, .ref a), (1, .ref (xnt E x1))] := hl
  have hn : XN 0 0 (xnx σ) (xns σ) (xnx res) (xns res) σ := ⟨Nat.zero_add _, Nat.zero_add _, (r0_X11_init (a := a) (x1 := x1) (σ := σ) hf).le.1, (r0_X11_init (a := a) (x1 := x1) (σ := σ) hf).le.2⟩
  refine lv_aload_n hx hb dX11_init_0 rfl (lv_at hl 0 rfl) ?_
  refine W.objInit hx hb hown (hts _ q709) (hts _ q175) (hts _ q176) rfl (by rw [hml]; exact hl.1) rfl dX11_init_1 (Nat.le_of_ble_eq_true rfl) (Nat.le_of_ble_eq_true rfl) ?_
  refine lv_aload_n hx hb dX11_init_4 rfl (lv_at hl 0 rfl) ?_
  refine lv_aload_n hx hb dX11_init_5 rfl (lv_at hl 1 rfl) ?_
  refine k_bind hf (fun σ1 hσ1 hf => ?_)
  refine x_putF S hnm hR hS pt_X11_7 rfl rfl hσ1 dX11_init_6 (fun H locs hR hS => ?_)
  replace hn := hn.to (r0_p hσ1)
  obtain rfl := Option.some.inj hf
  exact x_vret S hR hS hn dX11_init_9

theorem lk_X12_9 : ∀ q ∈ ([(10, 0), (11, 0)] : List (Nat × Nat)), wLk RX12 9 q.1 q.2 := List.forall_mem_cons.mpr ⟨⟨RX13, TX13, 9, "LinesTouched$Counting", rfl, by decide, in_X13, q722, Or.inl rfl⟩, List.forall_mem_cons.mpr ⟨⟨RX14, TX14, 4, "LinesTouched$Counting", rfl, by decide, in_X14, q722, Or.inl rfl⟩, fun _ h => absurd h List.not_mem_nil⟩⟩
theorem pt_X12_9 : ∀ q ∈ ([(10, 0), (11, 0)] : List (Nat × Nat)), wLk RX12 9 q.1 q.2 ∧ wPt q.1 q.2 (.array .int) true RX12 := List.forall_mem_cons.mpr ⟨⟨⟨RX13, TX13, 9, "LinesTouched$Counting", rfl, by decide, in_X13, q722, Or.inl rfl⟩, ⟨RX13, TX13, 9, tyX13, rfl, by decide, rfl, by decide +kernel, nmX13, tyX13_ok, fun _ => rfl⟩⟩, List.forall_mem_cons.mpr ⟨⟨⟨RX14, TX14, 4, "LinesTouched$Counting", rfl, by decide, in_X14, q722, Or.inl rfl⟩, ⟨RX14, TX14, 4, tyX14, rfl, by decide, rfl, by decide +kernel, nmX14, tyX14_ok, fun _ => rfl⟩⟩, fun _ h => absurd h List.not_mem_nil⟩⟩
noncomputable def fX12_init (a : Nat) (x1 : Fin 3) (σ : xS) : Option (xS) :=
  (fX11_init a x1 σ).bind (fun e1 => (xna e1 1 (13 : Int32)).bind (fun n2 => (xp n2.2 [(10, 0), (11, 0)] a (.ref n2.1)).bind (fun σ3 => some σ3)))
theorem wi_X12_init : wInfI yX12_init cX12_init 2 1 := ⟨q704, q125, q705, rfl, (by decide +kernel), (by decide +kernel), (by decide +kernel)⟩
set_option maxHeartbeats 4000000 in
set_option maxRecDepth 100000 in
theorem r1_X12_init {a : Nat} {x1 : Fin 3} {σ : xS} {res : xS} (hf : fX12_init a x1 σ = some res) : rl1 σ res := by
  replace hf : ((fX11_init a x1 σ).bind (fun e1 => (xna e1 1 (13 : Int32)).bind (fun n2 => (xp n2.2 [(10, 0), (11, 0)] a (.ref n2.1)).bind (fun σ3 => some σ3)))) = some res := hf
  refine k_bind hf (fun e1 he1 hf => ?_)
  refine rl0.tr1 (r0_X11_init he1) ?_
  refine k_bind hf (fun n2 hn2 hf => ?_)
  refine rl1.tr (r1_na hn2) ?_
  refine k_bind hf (fun σ3 hσ3 hf => ?_)
  refine rl0.tr1 (r0_p hσ3) ?_
  obtain rfl := Option.some.inj hf
  exact rl1.rf _
set_option maxHeartbeats 4000000 in
set_option maxRecDepth 100000 in
theorem met_X12_init {l : Launch} {E : xG} {a : Nat} {x1 : Fin 3} {σ : xS} {res : xS} (hf : fX12_init a x1 σ = some res) : xMet l yX12_init cX12_init 2 (Option.none : Option Jvm.ClassFile.FieldType) 2 45 E [.ref a, .ref (xnt E x1)] σ none res := by
  replace hf : ((fX11_init a x1 σ).bind (fun e1 => (xna e1 1 (13 : Int32)).bind (fun n2 => (xp n2.2 [(10, 0), (11, 0)] a (.ref n2.1)).bind (fun σ3 => some σ3)))) = some res := hf
  refine x_start (by decide) (Nat.le_of_ble_eq_true rfl) ?_
  intro p e s m args below meth c S hnm hR hS ls hl
  obtain ⟨hx, hb, hml, hown, hts⟩ := S.1.1
  have hl : lv_has ls 2 [(0, .ref a), (1, .ref (xnt E x1))] := hl
  have hn : XN 0 0 (xnx σ) (xns σ) (xnx res) (xns res) σ := ⟨Nat.zero_add _, Nat.zero_add _, (r1_X12_init (a := a) (x1 := x1) (σ := σ) hf).1, (r1_X12_init (a := a) (x1 := x1) (σ := σ) hf).2⟩
  have hb9 : XB (xnx res) (xns res) res := ⟨Nat.le_refl _, Nat.le_refl _⟩
  refine lv_aload_n hx hb dX12_init_0 rfl (lv_at hl 0 rfl) ?_
  refine lv_aload_n hx hb dX12_init_1 rfl (lv_at hl 1 rfl) ?_
  refine k_bind hf (fun e1 he1 hf => ?_)
  refine x_callI (As := [.ref (xnt E x1)]) (rest := []) S hR hS hn (met_X11_init he1) (r0_X11_init he1).le (hn.b (r0_X11_init he1)) wi_X11_init q706 ⟨Nat.le_of_ble_eq_true rfl, Nat.le_of_ble_eq_true rfl⟩ rfl hl.1 rfl (Nat.le_of_ble_eq_true rfl) dX12_init_2 (fun H locs cells slots hR hS hn => ?_)
  refine lv_aload_n hx hb dX12_init_5 rfl (lv_at hl 0 rfl) ?_
  refine lv_bipush (v := 13) hx hb dX12_init_6 (by decide) ?_
  refine k_bind hf (fun n2 hn2 hf => ?_)
  have hbn2 : XB (xnx res) (xns res) n2.2 := hb9.back (by
    refine k_bind hf (fun σ3 hσ3 hf => ?_)
    refine rl0.tr1 (r0_p hσ3) ?_
    obtain rfl := Option.some.inj hf
    exact rl1.rf _)
  refine x_newa (t := 1) (atype := .int) S hR hS hn hn2 hbn2 rfl (by decide) (by decide) q204 dX12_init_8 (fun H cells slots hR hS hn => ?_)
  refine k_bind hf (fun σ3 hσ3 hf => ?_)
  refine x_putF S hnm hR hS pt_X12_9 rfl rfl hσ3 dX12_init_10 (fun H locs hR hS => ?_)
  replace hn := hn.to (r0_p hσ3)
  obtain rfl := Option.some.inj hf
  exact x_vret S hR hS hn dX12_init_13

theorem lk_X13_10 : ∀ q ∈ ([(10, 4)] : List (Nat × Nat)), wLk RX13 10 q.1 q.2 := List.forall_mem_cons.mpr ⟨⟨RX13, TX13, 9, "LinesTouched$Cheapest", rfl, by decide, in_X13, q712, Or.inl rfl⟩, fun _ h => absurd h List.not_mem_nil⟩
theorem pt_X13_10 : ∀ q ∈ ([(10, 4)] : List (Nat × Nat)), wLk RX13 10 q.1 q.2 ∧ wPt q.1 q.2 .int false RX13 := List.forall_mem_cons.mpr ⟨⟨⟨RX13, TX13, 9, "LinesTouched$Cheapest", rfl, by decide, in_X13, q712, Or.inl rfl⟩, ⟨RX13, TX13, 9, tyX13, rfl, by decide, rfl, by decide +kernel, nmX13, tyX13_ok, fun h => absurd h (by decide)⟩⟩, fun _ h => absurd h List.not_mem_nil⟩
theorem lk_X13_16 : ∀ q ∈ ([(10, 3)] : List (Nat × Nat)), wLk RX13 16 q.1 q.2 := List.forall_mem_cons.mpr ⟨⟨RX13, TX13, 9, "LinesTouched$Cheapest", rfl, by decide, in_X13, q711, Or.inl rfl⟩, fun _ h => absurd h List.not_mem_nil⟩
theorem pt_X13_16 : ∀ q ∈ ([(10, 3)] : List (Nat × Nat)), wLk RX13 16 q.1 q.2 ∧ wPt q.1 q.2 (.object "LinesTouched$Worth") true RX13 := List.forall_mem_cons.mpr ⟨⟨⟨RX13, TX13, 9, "LinesTouched$Cheapest", rfl, by decide, in_X13, q711, Or.inl rfl⟩, ⟨RX13, TX13, 9, tyX13, rfl, by decide, rfl, by decide +kernel, nmX13, tyX13_ok, fun _ => rfl⟩⟩, fun _ h => absurd h List.not_mem_nil⟩
noncomputable def fX13_init (a : Nat) (x1 : Fin 3) (x2 : Option Nat) (σ : xS) : Option (xS) :=
  (fX12_init a x1 σ).bind (fun e1 => (xp e1 [(10, 4)] a (.int (2147483647 : Int32))).bind (fun σ2 => (xp σ2 [(10, 3)] a (va_rf x2)).bind (fun σ3 => some σ3)))
theorem wi_X13_init : wInfI yX13_init cX13_init 3 2 := ⟨q701, q126, q702, rfl, (by decide +kernel), (by decide +kernel), (by decide +kernel)⟩
set_option maxHeartbeats 4000000 in
set_option maxRecDepth 100000 in
theorem r1_X13_init {a : Nat} {x1 : Fin 3} {x2 : Option Nat} {σ : xS} {res : xS} (hf : fX13_init a x1 x2 σ = some res) : rl1 σ res := by
  replace hf : ((fX12_init a x1 σ).bind (fun e1 => (xp e1 [(10, 4)] a (.int (2147483647 : Int32))).bind (fun σ2 => (xp σ2 [(10, 3)] a (va_rf x2)).bind (fun σ3 => some σ3)))) = some res := hf
  refine k_bind hf (fun e1 he1 hf => ?_)
  refine rl1.tr (r1_X12_init he1) ?_
  refine k_bind hf (fun σ2 hσ2 hf => ?_)
  refine rl0.tr1 (r0_p hσ2) ?_
  refine k_bind hf (fun σ3 hσ3 hf => ?_)
  refine rl0.tr1 (r0_p hσ3) ?_
  obtain rfl := Option.some.inj hf
  exact rl1.rf _
set_option maxHeartbeats 4000000 in
set_option maxRecDepth 100000 in
theorem met_X13_init {l : Launch} {E : xG} {a : Nat} {x1 : Fin 3} {x2 : Option Nat} {σ : xS} {res : xS} (hf : fX13_init a x1 x2 σ = some res) : xMet l yX13_init cX13_init 3 (Option.none : Option Jvm.ClassFile.FieldType) 3 66 E [.ref a, .ref (xnt E x1), va_rf x2] σ none res := by
  replace hf : ((fX12_init a x1 σ).bind (fun e1 => (xp e1 [(10, 4)] a (.int (2147483647 : Int32))).bind (fun σ2 => (xp σ2 [(10, 3)] a (va_rf x2)).bind (fun σ3 => some σ3)))) = some res := hf
  refine x_start (by decide) (Nat.le_of_ble_eq_true rfl) ?_
  intro p e s m args below meth c S hnm hR hS ls hl
  obtain ⟨hx, hb, hml, hown, hts⟩ := S.1.1
  have hl : lv_has ls 3 [(0, .ref a), (1, .ref (xnt E x1)), (2, va_rf x2)] := hl
  have hn : XN 0 0 (xnx σ) (xns σ) (xnx res) (xns res) σ := ⟨Nat.zero_add _, Nat.zero_add _, (r1_X13_init (a := a) (x1 := x1) (x2 := x2) (σ := σ) hf).1, (r1_X13_init (a := a) (x1 := x1) (x2 := x2) (σ := σ) hf).2⟩
  have hb9 : XB (xnx res) (xns res) res := ⟨Nat.le_refl _, Nat.le_refl _⟩
  refine lv_aload_n hx hb dX13_init_0 rfl (lv_at hl 0 rfl) ?_
  refine lv_aload_n hx hb dX13_init_1 rfl (lv_at hl 1 rfl) ?_
  refine k_bind hf (fun e1 he1 hf => ?_)
  have hb_2 : XB (xnx res) (xns res) e1 := hb9.back (by
    refine k_bind hf (fun σ2 hσ2 hf => ?_)
    refine rl0.tr1 (r0_p hσ2) ?_
    refine k_bind hf (fun σ3 hσ3 hf => ?_)
    refine rl0.tr1 (r0_p hσ3) ?_
    obtain rfl := Option.some.inj hf
    exact rl1.rf _)
  refine x_callI (As := [.ref (xnt E x1)]) (rest := []) S hR hS hn (met_X12_init he1) (r1_X12_init he1) hb_2 wi_X12_init q703 ⟨Nat.le_of_ble_eq_true rfl, Nat.le_of_ble_eq_true rfl⟩ rfl hl.1 rfl (Nat.le_of_ble_eq_true rfl) dX13_init_2 (fun H locs cells slots hR hS hn => ?_)
  refine lv_aload_n hx hb dX13_init_5 rfl (lv_at hl 0 rfl) ?_
  refine lv_ldc hx hb hown (hts _ q710) dX13_init_6 ?_
  refine k_bind hf (fun σ2 hσ2 hf => ?_)
  refine x_put S hR hS pt_X13_10 rfl rfl hσ2 dX13_init_8 (fun H locs hR hS => ?_)
  replace hn := hn.to (r0_p hσ2)
  refine lv_aload_n hx hb dX13_init_11 rfl (lv_at hl 0 rfl) ?_
  refine x_aload_n (r := x2) hx hb dX13_init_12 rfl (lv_at hl 2 rfl) ?_
  refine k_bind hf (fun σ3 hσ3 hf => ?_)
  refine x_putF S hnm hR hS pt_X13_16 (rf_nar _ _ (by decide)) (rf_fit _ _ (by decide)) hσ3 dX13_init_13 (fun H locs hR hS => ?_)
  replace hn := hn.to (r0_p hσ3)
  obtain rfl := Option.some.inj hf
  exact x_vret S hR hS hn dX13_init_16


noncomputable def fX0_cheapest (x1 : Option Nat) (σ : xS) : Option (Option Nat × xS) :=
  (xnw σ (.inr (10, [.null, .int 0, .null, .null, .int 0, .int 0, .int 0, .int 0, .int 0])) 9).bind (fun n1 => (fX13_init n1.1 (0 : Fin 3) x1 n1.2).bind (fun e2 => none))
theorem wi_X0_cheapest : wInfV yX0_cheapest cX0_cheapest 3 (Option.some (Jvm.ClassFile.FieldType.object "LinesTouched$Cheapest")) 1 := ⟨q696, qs14, q106, q697, (by decide +kernel), (by decide +kernel), (by decide +kernel)⟩
set_option maxHeartbeats 4000000 in
set_option maxRecDepth 100000 in
theorem r1_X0_cheapest {x1 : Option Nat} {σ : xS} {res : Option Nat × xS} (hf : fX0_cheapest x1 σ = some res) : rl1 σ res.2 := by
  replace hf : ((xnw σ (.inr (10, [.null, .int 0, .null, .null, .int 0, .int 0, .int 0, .int 0, .int 0])) 9).bind (fun n1 => (fX13_init n1.1 (0 : Fin 3) x1 n1.2).bind (fun e2 => none))) = some res := hf
  refine k_bind hf (fun n1 hn1 hf => ?_)
  refine rl1.tr (r1_nw hn1) ?_
  refine k_bind hf (fun e2 he2 hf => ?_)
  refine rl1.tr (r1_X13_init he2) ?_
  cases hf
set_option maxHeartbeats 4000000 in
set_option maxRecDepth 100000 in
theorem met_X0_cheapest {l : Launch} {E : xG} {x1 : Option Nat} {σ : xS} {res : Option Nat × xS} (hf : fX0_cheapest x1 σ = some res) : xMet l yX0_cheapest cX0_cheapest 3 (Option.some (Jvm.ClassFile.FieldType.object "LinesTouched$Cheapest")) 4 88 E [.ref (xo E), va_rf x1] σ (some (va_rf res.1)) res.2 := by
  replace hf : ((xnw σ (.inr (10, [.null, .int 0, .null, .null, .int 0, .int 0, .int 0, .int 0, .int 0])) 9).bind (fun n1 => (fX13_init n1.1 (0 : Fin 3) x1 n1.2).bind (fun e2 => none))) = some res := hf
  refine x_start (by decide) (Nat.le_of_ble_eq_true rfl) ?_
  intro p e s m args below meth c S hnm hR hS ls hl
  obtain ⟨hx, hb, hml, hown, hts⟩ := S.1.1
  have hl : lv_has ls 3 [(0, .ref (xo E)), (1, va_rf x1)] := hl
  have hn : XN 0 0 (xnx σ) (xns σ) (xnx res.2) (xns res.2) σ := ⟨Nat.zero_add _, Nat.zero_add _, (r1_X0_cheapest (x1 := x1) (σ := σ) hf).1, (r1_X0_cheapest (x1 := x1) (σ := σ) hf).2⟩
  have hb9 : XB (xnx res.2) (xns res.2) res.2 := ⟨Nat.le_refl _, Nat.le_refl _⟩
  refine k_bind hf (fun n1 hn1 hf => ?_)
  have hbn1 : XB (xnx res.2) (xns res.2) n1.2 := hb9.back (by
    refine k_bind hf (fun e2 he2 hf => ?_)
    refine rl1.tr (r1_X13_init he2) ?_
    cases hf)
  refine x_newQ (T := TX13) (ty := tyX13) S hR hS hn hn1 hbn1 rfl in_X13 tyX13_ok (by decide +kernel) q698 q699 q126 dX0_cheapest_0 (fun H cells slots hR hS hn => ?_)
  refine lv_dup hx hb dX0_cheapest_3 rfl ?_
  refine lv_aload_n hx hb dX0_cheapest_4 rfl (lv_at hl 0 rfl) ?_
  refine x_oget (k := 0) (v := .ref (xnt E (0 : Fin 3))) S hR (lk_X0_10 _ List.mem_cons_self) rfl dX0_cheapest_5 ?_
  refine x_aload_n (r := x1) hx hb dX0_cheapest_8 rfl (lv_at hl 1 rfl) ?_
  refine k_bind hf (fun e2 he2 hf => ?_)
  have hb_9 : XB (xnx res.2) (xns res.2) e2 := hb9.back (by
    cases hf)
  refine x_callI (As := [.ref (xnt E (0 : Fin 3)), va_rf x1]) (rest := [.ref n1.1]) S hR hS hn (met_X13_init he2) (r1_X13_init he2) hb_9 wi_X13_init q700 ⟨Nat.le_of_ble_eq_true rfl, Nat.le_of_ble_eq_true rfl⟩ rfl hl.1 rfl (Nat.le_of_ble_eq_true rfl) dX0_cheapest_9 (fun H locs cells slots hR hS hn => ?_)
  refine x_astore_n (r := (some n1.1)) (lv' := [(2, .ref n1.1), (0, .ref (xo E)), (1, va_rf x1)]) hx hb dX0_cheapest_12 rfl hl (by decide) rfl (fun ls hl => ?_)
  refine lv_aload_n hx hb dX0_cheapest_13 rfl (lv_at hl 0 rfl) ?_
  cases hf
