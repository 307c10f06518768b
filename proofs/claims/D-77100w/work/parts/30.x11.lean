/-! the component, walked: X0_deepest X0_node X0_prove X0_without X0_cut X0_joins X0_allPay X0_pays X0_spent X19_init X0_paid X0_feed X0_wipe X0_bareOf -/
theorem lk_X0_449 : ∀ q ∈ ([(13, 3)] : List (Nat × Nat)), wLkN RX0 449 q.1 q.2 := List.forall_mem_cons.mpr ⟨⟨RX16, TX16, 5, "LinesTouched", rfl, by decide, in_X16, q1613⟩, fun _ h => absurd h List.not_mem_nil⟩
noncomputable def LX0_deepest_4 (σ : xS) (q : Int32 × Int32) : Option ((Int32 × Int32) ⊕ (Int32)) :=
  if (xI σ 18) ≤ q.2 then some (Sum.inr q.1) else (xlr σ 5 q.2).bind (fun v1 => (v1).bind (fun a2 => (xgI σ [(13, 3)] a2).bind (fun v3 => (some (fJ6_max q.1 v3)).bind (fun v4 => some (Sum.inl (v4, q.2 + (1 : Int32)))))))
noncomputable def fX0_deepest (σ : xS) : Option (Int32) :=
  (lpw (LX0_deepest_4 σ) ((0 : Int32), (0 : Int32))).bind (fun b5 => some b5)
theorem wi_X0_deepest : wInfV yX0_deepest cX0_deepest 3 (Option.some Jvm.ClassFile.FieldType.int) 0 := ⟨q1729, qs37, q106, q1730, (by decide +kernel), (by decide +kernel), (by decide +kernel)⟩
set_option maxHeartbeats 4000000 in
set_option maxRecDepth 100000 in
theorem wbLX0_deepest_4 {l : Launch} {E : xG} {p : Program} {e : Env} {s : State} {m : MethodId} {args : Array Value} {below : List Frame} {meth : Method} {c : Code} {Q : State → Prop} {n0 s0 nf sf : Nat} {σ : xS} {q : Int32 × Int32} {res : (Int32 × Int32) ⊕ (Int32)} (S : xSt E RX0 p m c cX0_deepest 3 s args meth (Option.some Jvm.ClassFile.FieldType.int)) (hf : LX0_deepest_4 σ q = some res) (hK : ∀ q, res = Sum.inl q → (∀ (H : Heap) (locs : List Loc) (cells slots : Nat) (ls : Array Slot), xR E σ H → va_S (xAA E) s.heap H locs → XN cells slots n0 s0 nf sf σ → lv_has ls 3 [(0, .ref (xo E)), (1, .int q.1), (2, .int q.2)] → W p l e (xRm 1 21 (nf - n0) (sf - s0)) s m args below meth c H locs cells slots Q (F0 m 4 ls []))) (hE32 : ∀ b, res = Sum.inr b → (∀ (H : Heap) (locs : List Loc) (cells slots : Nat) (ls : Array Slot), xR E σ H → va_S (xAA E) s.heap H locs → XN cells slots n0 s0 nf sf σ → lv_has ls 3 [(1, .int b)] → W p l e (xRm 1 21 (nf - n0) (sf - s0)) s m args below meth c H locs cells slots Q (F0 m 32 ls []))) : (∀ (H : Heap) (locs : List Loc) (cells slots : Nat) (ls : Array Slot), xR E σ H → va_S (xAA E) s.heap H locs → XN cells slots n0 s0 nf sf σ → lv_has ls 3 [(0, .ref (xo E)), (1, .int q.1), (2, .int q.2)] → W p l e (xRm 1 21 (nf - n0) (sf - s0)) s m args below meth c H locs cells slots Q (F0 m 4 ls [])) := by
  replace hf : (if (xI σ 18) ≤ q.2 then some (Sum.inr q.1) else (xlr σ 5 q.2).bind (fun v1 => (v1).bind (fun a2 => (xgI σ [(13, 3)] a2).bind (fun v3 => (some (fJ6_max q.1 v3)).bind (fun v4 => some (Sum.inl (v4, q.2 + (1 : Int32)))))))) = some res := hf
  obtain ⟨hx, hb, hml, hown, hts⟩ := S.1.1
  intro H locs cells slots ls hR hS hn hl
  refine lv_iload_n hx hb dX0_deepest_4 rfl (lv_at hl 2 rfl) ?_
  refine lv_aload_n hx hb dX0_deepest_5 rfl (lv_at hl 0 rfl) ?_
  refine x_oget (k := 18) (v := .int (xI σ 18)) S hR (lk_X0_419 _ List.mem_cons_self) rfl dX0_deepest_6 ?_
  refine lv_icmp_ge (tgt := 32) hx hb dX0_deepest_9 (by decide) (fun c_9 => ?_) (fun c_9 => ?_)
  · replace hf := o_t hf c_9
    exact hE32 _ (Option.some.inj hf).symm _ _ _ _ _ hR hS hn (lv_sub (l' := [(1, .int q.1)]) hl [1] rfl)
  · replace hf := o_f hf c_9
    refine lv_iload_n hx hb dX0_deepest_12 rfl (lv_at hl 1 rfl) ?_
    refine lv_aload_n hx hb dX0_deepest_13 rfl (lv_at hl 0 rfl) ?_
    refine x_oget (k := 17) (v := .ref (xar E 5)) S hR (lk_X0_55 _ List.mem_cons_self) rfl dX0_deepest_14 ?_
    refine lv_iload_n hx hb dX0_deepest_17 rfl (lv_at hl 2 rfl) ?_
    refine k_bind hf (fun v1 hv1 hf => ?_)
    refine x_slr S hR hv1 dX0_deepest_18 ?_
    refine k_bind hf (fun a2 ha2 hf => ?_)
    rw [rf_some ha2]
    refine k_bind hf (fun v3 hv3 hf => ?_)
    refine x_getN S hR lk_X0_449 (xgI_g hv3) dX0_deepest_19 ?_
    refine s_call (As := [.int q.1, .int v3]) (rest := []) S.1.1 (met_J6_max rfl) wi_J6_max q1480 ⟨rfl, rfl⟩ ⟨Nat.le_of_ble_eq_true rfl, Nat.le_of_ble_eq_true rfl⟩ rfl hl.1 rfl (Nat.le_of_ble_eq_true rfl) dX0_deepest_22 hn.cs ?_
    refine k_bind hf (fun v4 hv4 hf => ?_)
    refine m_nmi hv4 ?_
    refine lv_istore_n (lv' := [(1, .int v4), (0, .ref (xo E)), (2, .int q.2)]) hx hb dX0_deepest_25 rfl hl (by decide) rfl (fun ls hl => ?_)
    refine lv_iinc (lv' := [(2, .int (q.2 + (1 : Int32))), (1, .int v4), (0, .ref (xo E))]) hx hb dX0_deepest_26 hl (k := 2) rfl (m_inc (by decide)) (by decide) rfl (fun ls hl => ?_)
    refine lv_goto (tgt := 4) hx hb dX0_deepest_29 (by decide) ?_
    exact hK _ (Option.some.inj hf).symm _ _ _ _ _ hR hS hn (lv_sub (l' := [(0, .ref (xo E)), (1, .int v4), (2, .int (q.2 + (1 : Int32)))]) hl [2, 1, 0] rfl)
set_option maxHeartbeats 4000000 in
set_option maxRecDepth 100000 in
theorem wLX0_deepest_4 {l : Launch} {E : xG} {p : Program} {e : Env} {s : State} {m : MethodId} {args : Array Value} {below : List Frame} {meth : Method} {c : Code} {Q : State → Prop} {n0 s0 nf sf : Nat} {σ : xS} {q : Int32 × Int32} {res : Int32} (S : xSt E RX0 p m c cX0_deepest 3 s args meth (Option.some Jvm.ClassFile.FieldType.int)) (h : lpw (LX0_deepest_4 σ) q = some res) (hE32 : ∀ b, res = b → (∀ (H : Heap) (locs : List Loc) (cells slots : Nat) (ls : Array Slot), xR E σ H → va_S (xAA E) s.heap H locs → XN cells slots n0 s0 nf sf σ → lv_has ls 3 [(1, .int b)] → W p l e (xRm 1 21 (nf - n0) (sf - s0)) s m args below meth c H locs cells slots Q (F0 m 32 ls []))) : (∀ (H : Heap) (locs : List Loc) (cells slots : Nat) (ls : Array Slot), xR E σ H → va_S (xAA E) s.heap H locs → XN cells slots n0 s0 nf sf σ → lv_has ls 3 [(0, .ref (xo E)), (1, .int q.1), (2, .int q.2)] → W p l e (xRm 1 21 (nf - n0) (sf - s0)) s m args below meth c H locs cells slots Q (F0 m 4 ls [])) :=
  lpw_go _ (fun q => (∀ (H : Heap) (locs : List Loc) (cells slots : Nat) (ls : Array Slot), xR E σ H → va_S (xAA E) s.heap H locs → XN cells slots n0 s0 nf sf σ → lv_has ls 3 [(0, .ref (xo E)), (1, .int q.1), (2, .int q.2)] → W p l e (xRm 1 21 (nf - n0) (sf - s0)) s m args below meth c H locs cells slots Q (F0 m 4 ls []))) (fun b0 => (∀ b, b0 = b → (∀ (H : Heap) (locs : List Loc) (cells slots : Nat) (ls : Array Slot), xR E σ H → va_S (xAA E) s.heap H locs → XN cells slots n0 s0 nf sf σ → lv_has ls 3 [(1, .int b)] → W p l e (xRm 1 21 (nf - n0) (sf - s0)) s m args below meth c H locs cells slots Q (F0 m 32 ls [])))) (fun q x hf hK hX => wbLX0_deepest_4 S hf hK (fun b eb => (hX _ eb) b rfl)) q res h hE32
set_option maxHeartbeats 4000000 in
set_option maxRecDepth 100000 in
theorem met_X0_deepest {l : Launch} {E : xG} {σ : xS} {res : Int32} (hf : fX0_deepest σ = some res) : xMet l yX0_deepest cX0_deepest 3 (Option.some Jvm.ClassFile.FieldType.int) 1 21 E [.ref (xo E)] σ (some (.int res)) σ := by
  replace hf : ((lpw (LX0_deepest_4 σ) ((0 : Int32), (0 : Int32))).bind (fun b5 => some b5)) = some res := hf
  refine x_start (by decide) (Nat.le_of_ble_eq_true rfl) ?_
  intro p e s m args below meth c S hnm hR hS ls hl
  obtain ⟨hx, hb, hml, hown, hts⟩ := S.1.1
  have hl : lv_has ls 3 [(0, .ref (xo E))] := hl
  have hn : XN 0 0 (xnx σ) (xns σ) (xnx σ) (xns σ) σ := ⟨Nat.zero_add _, Nat.zero_add _, (rl1.rf σ).1, (rl1.rf σ).2⟩
  refine lv_iconst (v := 0) hx hb dX0_deepest_0 (by decide) ?_
  refine lv_istore_n (lv' := [(1, .int (0 : Int32)), (0, .ref (xo E))]) hx hb dX0_deepest_1 rfl hl (by decide) rfl (fun ls hl => ?_)
  refine lv_iconst (v := 0) hx hb dX0_deepest_2 (by decide) ?_
  refine lv_istore_n (lv' := [(2, .int (0 : Int32)), (1, .int (0 : Int32)), (0, .ref (xo E))]) hx hb dX0_deepest_3 rfl hl (by decide) rfl (fun ls hl => ?_)
  refine k_bind hf (fun b5 hb5 hf => ?_)
  refine wLX0_deepest_4 S hb5 ?_ _ _ _ _ _ hR hS hn (lv_sub (l' := [(0, .ref (xo E)), (1, .int (0 : Int32)), (2, .int (0 : Int32))]) hl [2, 1, 0] rfl)
  · intro b eb; subst eb; intro H locs cells slots ls hR hS hn hl
    refine lv_iload_n hx hb dX0_deepest_32 rfl (lv_at hl 0 rfl) ?_
    obtain rfl := Option.some.inj hf
    exact x_iret S hR hS hn rfl dX0_deepest_33


noncomputable def fX0_node (x1 : Int32) (x2 : Int32) (x3 : Int32) (σ : xS) : Option (Int32) :=
  if (fX0_in x1 (0 : Int32) (12 : Int32)) = (0 : Int32) then some (-2 : Int32) else if (fX0_in x3 (0 : Int32) (4 : Int32)) = (0 : Int32) then some (-2 : Int32) else none
theorem wi_X0_node : wInfV yX0_node cX0_node 5 (Option.some Jvm.ClassFile.FieldType.int) 3 := ⟨q1732, q1733, q106, q1734, (by decide +kernel), (by decide +kernel), (by decide +kernel)⟩
set_option maxHeartbeats 4000000 in
set_option maxRecDepth 100000 in
theorem met_X0_node {l : Launch} {E : xG} {x1 : Int32} {x2 : Int32} {x3 : Int32} {σ : xS} {res : Int32} (hf : fX0_node x1 x2 x3 σ = some res) : xMet l yX0_node cX0_node 5 (Option.some Jvm.ClassFile.FieldType.int) 1 22 E [.ref (xo E), .int x1, .int x2, .int x3] σ (some (.int res)) σ := by
  replace hf : (if (fX0_in x1 (0 : Int32) (12 : Int32)) = (0 : Int32) then some (-2 : Int32) else if (fX0_in x3 (0 : Int32) (4 : Int32)) = (0 : Int32) then some (-2 : Int32) else none) = some res := hf
  refine x_start (by decide) (Nat.le_of_ble_eq_true rfl) ?_
  intro p e s m args below meth c S hnm hR hS ls hl
  obtain ⟨hx, hb, hml, hown, hts⟩ := S.1.1
  have hl : lv_has ls 5 [(0, .ref (xo E)), (1, .int x1), (2, .int x2), (3, .int x3)] := hl
  have hn : XN 0 0 (xnx σ) (xns σ) (xnx σ) (xns σ) σ := ⟨Nat.zero_add _, Nat.zero_add _, (rl1.rf σ).1, (rl1.rf σ).2⟩
  refine lv_iload_n hx hb dX0_node_0 rfl (lv_at hl 1 rfl) ?_
  refine lv_iconst (v := 0) hx hb dX0_node_1 (by decide) ?_
  refine lv_bipush (v := 12) hx hb dX0_node_2 (by decide) ?_
  refine s_call (As := [.int x1, .int (0 : Int32), .int (12 : Int32)]) (rest := []) S.1.1 (met_X0_in rfl) wi_X0_in q479 ⟨rfl, rfl⟩ ⟨Nat.le_of_ble_eq_true rfl, Nat.le_of_ble_eq_true rfl⟩ rfl hl.1 rfl (Nat.le_of_ble_eq_true rfl) dX0_node_4 hn.cs ?_
  refine lv_if_eq (tgt := 19) hx hb dX0_node_7 (by decide) (fun c_7 => ?_) (fun c_7 => ?_)
  · replace hf := o_t hf c_7
    refine lv_bipush (v := -2) hx hb dX0_node_19 (by decide) ?_
    obtain rfl := Option.some.inj hf
    exact x_iret S hR hS hn rfl dX0_node_21
  · replace hf := o_f hf c_7
    refine lv_iload_n hx hb dX0_node_10 rfl (lv_at hl 3 rfl) ?_
    refine lv_iconst (v := 0) hx hb dX0_node_11 (by decide) ?_
    refine lv_iconst (v := 4) hx hb dX0_node_12 (by decide) ?_
    refine s_call (As := [.int x3, .int (0 : Int32), .int (4 : Int32)]) (rest := []) S.1.1 (met_X0_in rfl) wi_X0_in q479 ⟨rfl, rfl⟩ ⟨Nat.le_of_ble_eq_true rfl, Nat.le_of_ble_eq_true rfl⟩ rfl hl.1 rfl (Nat.le_of_ble_eq_true rfl) dX0_node_13 hn.cs ?_
    refine lv_if_ne (tgt := 22) hx hb dX0_node_16 (by decide) (fun c_16 => ?_) (fun c_16 => ?_)
    · replace hf := o_f hf c_16
      refine lv_aload_n hx hb dX0_node_22 rfl (lv_at hl 0 rfl) ?_
      refine lv_iload_n hx hb dX0_node_23 rfl (lv_at hl 1 rfl) ?_
      cases hf
    · replace hf := o_t hf c_16
      refine lv_bipush (v := -2) hx hb dX0_node_19 (by decide) ?_
      obtain rfl := Option.some.inj hf
      exact x_iret S hR hS hn rfl dX0_node_21


noncomputable def fX0_prove (x1 : Int32) (x2 : Int32) (σ : xS) : Option (Int32) :=
  if (fX0_isSheet x1) = (0 : Int32) then some (-2 : Int32) else if (fX0_in x2 (0 : Int32) (12 : Int32)) = (0 : Int32) then some (-2 : Int32) else none
theorem wi_X0_prove : wInfV yX0_prove cX0_prove 5 (Option.some Jvm.ClassFile.FieldType.int) 2 := ⟨q1736, q1737, q106, q1738, (by decide +kernel), (by decide +kernel), (by decide +kernel)⟩
set_option maxHeartbeats 4000000 in
set_option maxRecDepth 100000 in
theorem met_X0_prove {l : Launch} {E : xG} {x1 : Int32} {x2 : Int32} {σ : xS} {res : Int32} (hf : fX0_prove x1 x2 σ = some res) : xMet l yX0_prove cX0_prove 5 (Option.some Jvm.ClassFile.FieldType.int) 2 42 E [.ref (xo E), .int x1, .int x2] σ (some (.int res)) σ := by
  replace hf : (if (fX0_isSheet x1) = (0 : Int32) then some (-2 : Int32) else if (fX0_in x2 (0 : Int32) (12 : Int32)) = (0 : Int32) then some (-2 : Int32) else none) = some res := hf
  refine x_start (by decide) (Nat.le_of_ble_eq_true rfl) ?_
  intro p e s m args below meth c S hnm hR hS ls hl
  obtain ⟨hx, hb, hml, hown, hts⟩ := S.1.1
  have hl : lv_has ls 5 [(0, .ref (xo E)), (1, .int x1), (2, .int x2)] := hl
  have hn : XN 0 0 (xnx σ) (xns σ) (xnx σ) (xns σ) σ := ⟨Nat.zero_add _, Nat.zero_add _, (rl1.rf σ).1, (rl1.rf σ).2⟩
  refine lv_iload_n hx hb dX0_prove_0 rfl (lv_at hl 1 rfl) ?_
  refine s_call (As := [.int x1]) (rest := []) S.1.1 (met_X0_isSheet rfl) wi_X0_isSheet q1568 ⟨rfl, rfl⟩ ⟨Nat.le_of_ble_eq_true rfl, Nat.le_of_ble_eq_true rfl⟩ rfl hl.1 rfl (Nat.le_of_ble_eq_true rfl) dX0_prove_1 hn.cs ?_
  refine lv_if_eq (tgt := 17) hx hb dX0_prove_4 (by decide) (fun c_4 => ?_) (fun c_4 => ?_)
  · replace hf := o_t hf c_4
    refine lv_bipush (v := -2) hx hb dX0_prove_17 (by decide) ?_
    obtain rfl := Option.some.inj hf
    exact x_iret S hR hS hn rfl dX0_prove_19
  · replace hf := o_f hf c_4
    refine lv_iload_n hx hb dX0_prove_7 rfl (lv_at hl 2 rfl) ?_
    refine lv_iconst (v := 0) hx hb dX0_prove_8 (by decide) ?_
    refine lv_bipush (v := 12) hx hb dX0_prove_9 (by decide) ?_
    refine s_call (As := [.int x2, .int (0 : Int32), .int (12 : Int32)]) (rest := []) S.1.1 (met_X0_in rfl) wi_X0_in q479 ⟨rfl, rfl⟩ ⟨Nat.le_of_ble_eq_true rfl, Nat.le_of_ble_eq_true rfl⟩ rfl hl.1 rfl (Nat.le_of_ble_eq_true rfl) dX0_prove_11 hn.cs ?_
    refine lv_if_ne (tgt := 20) hx hb dX0_prove_14 (by decide) (fun c_14 => ?_) (fun c_14 => ?_)
    · replace hf := o_f hf c_14
      refine lv_aload_n hx hb dX0_prove_20 rfl (lv_at hl 0 rfl) ?_
      refine lv_iload_n hx hb dX0_prove_21 rfl (lv_at hl 2 rfl) ?_
      cases hf
    · replace hf := o_t hf c_14
      refine lv_bipush (v := -2) hx hb dX0_prove_17 (by decide) ?_
      obtain rfl := Option.some.inj hf
      exact x_iret S hR hS hn rfl dX0_prove_19


noncomputable def fX0_without (x1 : Int32) (σ : xS) : Option (Int32) :=
  (fX1_isPoint (0 : Fin 3) x1 σ).bind (fun v1 => if v1 = (0 : Int32) then some (-2 : Int32) else (fX1_all (0 : Fin 3) σ).bind (fun v2 => (fX0_fewestOf 16 (v2 &&& ((ish (1 : Int32) x1) ^^^ (-1 : Int32))) σ).bind (fun v3 => some v3)))
theorem wi_X0_without : wInfV yX0_without cX0_without 2 (Option.some Jvm.ClassFile.FieldType.int) 1 := ⟨q1797, q1798, q106, q1799, (by decide +kernel), (by decide +kernel), (by decide +kernel)⟩
set_option maxHeartbeats 4000000 in
set_option maxRecDepth 100000 in
theorem met_X0_without {l : Launch} {E : xG} {x1 : Int32} {σ : xS} {res : Int32} (hf : fX0_without x1 σ = some res) : xMet l yX0_without cX0_without 2 (Option.some Jvm.ClassFile.FieldType.int) 21 495 E [.ref (xo E), .int x1] σ (some (.int res)) σ := by
  replace hf : ((fX1_isPoint (0 : Fin 3) x1 σ).bind (fun v1 => if v1 = (0 : Int32) then some (-2 : Int32) else (fX1_all (0 : Fin 3) σ).bind (fun v2 => (fX0_fewestOf 16 (v2 &&& ((ish (1 : Int32) x1) ^^^ (-1 : Int32))) σ).bind (fun v3 => some v3)))) = some res := hf
  refine x_start (by decide) (Nat.le_of_ble_eq_true rfl) ?_
  intro p e s m args below meth c S hnm hR hS ls hl
  obtain ⟨hx, hb, hml, hown, hts⟩ := S.1.1
  have hl : lv_has ls 2 [(0, .ref (xo E)), (1, .int x1)] := hl
  have hn : XN 0 0 (xnx σ) (xns σ) (xnx σ) (xns σ) σ := ⟨Nat.zero_add _, Nat.zero_add _, (rl1.rf σ).1, (rl1.rf σ).2⟩
  refine lv_aload_n hx hb dX0_without_0 rfl (lv_at hl 0 rfl) ?_
  refine x_oget (k := 0) (v := .ref (xnt E (0 : Fin 3))) S hR (lk_X0_10 _ List.mem_cons_self) rfl dX0_without_1 ?_
  refine lv_iload_n hx hb dX0_without_4 rfl (lv_at hl 1 rfl) ?_
  refine k_bind hf (fun v1 hv1 hf => ?_)
  refine x_call (C := RX1) (As := [.int x1]) (rest := []) S hR hS hn (met_X1_isPoint hv1) (rl1.rf _) (hn.b (rl0.rf _)) wi_X1_isPoint (xrc S.2 hR (ci := 1) rfl (Or.inr (Or.inl ⟨_, rfl, rfl⟩))) rfl q559 ⟨Nat.le_of_ble_eq_true rfl, Nat.le_of_ble_eq_true rfl⟩ rfl hl.1 rfl (Nat.le_of_ble_eq_true rfl) dX0_without_5 (fun H locs cells slots hR hS hn => ?_)
  refine lv_if_eq (tgt := 31) hx hb dX0_without_8 (by decide) (fun c_8 => ?_) (fun c_8 => ?_)
  · replace hf := o_t hf c_8
    refine lv_bipush (v := -2) hx hb dX0_without_31 (by decide) ?_
    obtain rfl := Option.some.inj hf
    exact x_iret S hR hS hn rfl dX0_without_33
  · replace hf := o_f hf c_8
    refine lv_aload_n hx hb dX0_without_11 rfl (lv_at hl 0 rfl) ?_
    refine lv_aload_n hx hb dX0_without_12 rfl (lv_at hl 0 rfl) ?_
    refine x_oget (k := 0) (v := .ref (xnt E (0 : Fin 3))) S hR (lk_X0_10 _ List.mem_cons_self) rfl dX0_without_13 ?_
    refine k_bind hf (fun v2 hv2 hf => ?_)
    refine x_call (C := RX1) (As := []) (rest := [.ref (xo E)]) S hR hS hn (met_X1_all hv2) (rl1.rf _) (hn.b (rl0.rf _)) wi_X1_all (xrc S.2 hR (ci := 1) rfl (Or.inr (Or.inl ⟨_, rfl, rfl⟩))) rfl q663 ⟨Nat.le_of_ble_eq_true rfl, Nat.le_of_ble_eq_true rfl⟩ rfl hl.1 rfl (Nat.le_of_ble_eq_true rfl) dX0_without_16 (fun H locs cells slots hR hS hn => ?_)
    refine lv_iconst (v := 1) hx hb dX0_without_19 (by decide) ?_
    refine lv_iload_n hx hb dX0_without_20 rfl (lv_at hl 1 rfl) ?_
    refine lv_ishl hx hb dX0_without_21 ?_
    refine lv_iconst (v := -1) hx hb dX0_without_22 (by decide) ?_
    refine lv_ixor hx hb dX0_without_23 ?_
    refine lv_iand hx hb dX0_without_24 ?_
    refine k_bind hf (fun v3 hv3 hf => ?_)
    refine x_call (C := RX0) (As := [.int (v2 &&& ((ish (1 : Int32) x1) ^^^ (-1 : Int32)))]) (rest := []) S hR hS hn (met_X0_fewestOf hv3) (rl1.rf _) (hn.b (rl0.rf _)) wi_X0_fewestOf (xrc S.2 hR (ci := 0) rfl (Or.inl ⟨rfl, rfl⟩)) rfl q1516 ⟨Nat.le_of_ble_eq_true rfl, Nat.le_of_ble_eq_true rfl⟩ rfl hl.1 rfl (Nat.le_of_ble_eq_true rfl) dX0_without_25 (fun H locs cells slots hR hS hn => ?_)
    refine lv_goto (tgt := 33) hx hb dX0_without_28 (by decide) ?_
    obtain rfl := Option.some.inj hf
    exact x_iret S hR hS hn rfl dX0_without_33


noncomputable def fX0_cut (x1 : Int32) (σ : xS) : Option (Int32) :=
  if (fX0_in x1 (0 : Int32) (1 : Int32)) = (0 : Int32) then some (-2 : Int32) else none
theorem wi_X0_cut : wInfV yX0_cut cX0_cut 3 (Option.some Jvm.ClassFile.FieldType.int) 1 := ⟨q1801, q1802, q106, q1803, (by decide +kernel), (by decide +kernel), (by decide +kernel)⟩
set_option maxHeartbeats 4000000 in
set_option maxRecDepth 100000 in
theorem met_X0_cut {l : Launch} {E : xG} {x1 : Int32} {σ : xS} {res : Int32} (hf : fX0_cut x1 σ = some res) : xMet l yX0_cut cX0_cut 3 (Option.some Jvm.ClassFile.FieldType.int) 1 22 E [.ref (xo E), .int x1] σ (some (.int res)) σ := by
  replace hf : (if (fX0_in x1 (0 : Int32) (1 : Int32)) = (0 : Int32) then some (-2 : Int32) else none) = some res := hf
  refine x_start (by decide) (Nat.le_of_ble_eq_true rfl) ?_
  intro p e s m args below meth c S hnm hR hS ls hl
  obtain ⟨hx, hb, hml, hown, hts⟩ := S.1.1
  have hl : lv_has ls 3 [(0, .ref (xo E)), (1, .int x1)] := hl
  have hn : XN 0 0 (xnx σ) (xns σ) (xnx σ) (xns σ) σ := ⟨Nat.zero_add _, Nat.zero_add _, (rl1.rf σ).1, (rl1.rf σ).2⟩
  refine lv_iload_n hx hb dX0_cut_0 rfl (lv_at hl 1 rfl) ?_
  refine lv_iconst (v := 0) hx hb dX0_cut_1 (by decide) ?_
  refine lv_iconst (v := 1) hx hb dX0_cut_2 (by decide) ?_
  refine s_call (As := [.int x1, .int (0 : Int32), .int (1 : Int32)]) (rest := []) S.1.1 (met_X0_in rfl) wi_X0_in q479 ⟨rfl, rfl⟩ ⟨Nat.le_of_ble_eq_true rfl, Nat.le_of_ble_eq_true rfl⟩ rfl hl.1 rfl (Nat.le_of_ble_eq_true rfl) dX0_cut_3 hn.cs ?_
  refine lv_if_ne (tgt := 12) hx hb dX0_cut_6 (by decide) (fun c_6 => ?_) (fun c_6 => ?_)
  · replace hf := o_f hf c_6
    refine lv_aload_n hx hb dX0_cut_12 rfl (lv_at hl 0 rfl) ?_
    refine lv_iconst (v := 1) hx hb dX0_cut_13 (by decide) ?_
    cases hf
  · replace hf := o_t hf c_6
    refine lv_bipush (v := -2) hx hb dX0_cut_9 (by decide) ?_
    obtain rfl := Option.some.inj hf
    exact x_iret S hR hS hn rfl dX0_cut_11


noncomputable def fX0_joins (x1 : Int32) (σ : xS) : Option (Int32) :=
  if (fX0_in x1 (0 : Int32) (1 : Int32)) = (0 : Int32) then some (-2 : Int32) else none
theorem wi_X0_joins : wInfV yX0_joins cX0_joins 3 (Option.some Jvm.ClassFile.FieldType.int) 1 := ⟨q1825, q1826, q106, q1827, (by decide +kernel), (by decide +kernel), (by decide +kernel)⟩
set_option maxHeartbeats 4000000 in
set_option maxRecDepth 100000 in
theorem met_X0_joins {l : Launch} {E : xG} {x1 : Int32} {σ : xS} {res : Int32} (hf : fX0_joins x1 σ = some res) : xMet l yX0_joins cX0_joins 3 (Option.some Jvm.ClassFile.FieldType.int) 1 22 E [.ref (xo E), .int x1] σ (some (.int res)) σ := by
  replace hf : (if (fX0_in x1 (0 : Int32) (1 : Int32)) = (0 : Int32) then some (-2 : Int32) else none) = some res := hf
  refine x_start (by decide) (Nat.le_of_ble_eq_true rfl) ?_
  intro p e s m args below meth c S hnm hR hS ls hl
  obtain ⟨hx, hb, hml, hown, hts⟩ := S.1.1
  have hl : lv_has ls 3 [(0, .ref (xo E)), (1, .int x1)] := hl
  have hn : XN 0 0 (xnx σ) (xns σ) (xnx σ) (xns σ) σ := ⟨Nat.zero_add _, Nat.zero_add _, (rl1.rf σ).1, (rl1.rf σ).2⟩
  refine lv_iload_n hx hb dX0_joins_0 rfl (lv_at hl 1 rfl) ?_
  refine lv_iconst (v := 0) hx hb dX0_joins_1 (by decide) ?_
  refine lv_iconst (v := 1) hx hb dX0_joins_2 (by decide) ?_
  refine s_call (As := [.int x1, .int (0 : Int32), .int (1 : Int32)]) (rest := []) S.1.1 (met_X0_in rfl) wi_X0_in q479 ⟨rfl, rfl⟩ ⟨Nat.le_of_ble_eq_true rfl, Nat.le_of_ble_eq_true rfl⟩ rfl hl.1 rfl (Nat.le_of_ble_eq_true rfl) dX0_joins_3 hn.cs ?_
  refine lv_if_ne (tgt := 12) hx hb dX0_joins_6 (by decide) (fun c_6 => ?_) (fun c_6 => ?_)
  · replace hf := o_f hf c_6
    refine lv_aload_n hx hb dX0_joins_12 rfl (lv_at hl 0 rfl) ?_
    refine lv_iconst (v := 0) hx hb dX0_joins_13 (by decide) ?_
    cases hf
  · replace hf := o_t hf c_6
    refine lv_bipush (v := -2) hx hb dX0_joins_9 (by decide) ?_
    obtain rfl := Option.some.inj hf
    exact x_iret S hR hS hn rfl dX0_joins_11

theorem lk_X0_62 : ∀ q ∈ ([(0, 24)] : List (Nat × Nat)), wLk RX0 62 q.1 q.2 := List.forall_mem_cons.mpr ⟨⟨RX0, TX0, 32, "LinesTouched", rfl, by decide, in_X0, q402, Or.inl rfl⟩, fun _ h => absurd h List.not_mem_nil⟩
noncomputable def fX0_allPay (σ : xS) : Option (Unit) :=
  none
theorem wi_X0_allPay : wInfV yX0_allPay cX0_allPay 4 (Option.none : Option Jvm.ClassFile.FieldType) 0 := ⟨q1834, qs40, q106, q1835, (by decide +kernel), (by decide +kernel), (by decide +kernel)⟩
set_option maxHeartbeats 4000000 in
set_option maxRecDepth 100000 in
theorem met_X0_allPay {l : Launch} {E : xG} {σ : xS} {res : Unit} (hf : fX0_allPay σ = some res) : xMet l yX0_allPay cX0_allPay 4 (Option.none : Option Jvm.ClassFile.FieldType) 0 0 E [.ref (xo E)] σ none σ := by
  replace hf : none = some res := hf
  refine x_start (by decide) (Nat.le_of_ble_eq_true rfl) ?_
  intro p e s m args below meth c S hnm hR hS ls hl
  obtain ⟨hx, hb, hml, hown, hts⟩ := S.1.1
  have hl : lv_has ls 4 [(0, .ref (xo E))] := hl
  have hn : XN 0 0 (xnx σ) (xns σ) (xnx σ) (xns σ) σ := ⟨Nat.zero_add _, Nat.zero_add _, (rl1.rf σ).1, (rl1.rf σ).2⟩
  refine lv_aload_n hx hb dX0_allPay_0 rfl (lv_at hl 0 rfl) ?_
  refine x_oget (k := 24) (v := va_rf (xT σ 1)) S hR (lk_X0_62 _ List.mem_cons_self) rfl dX0_allPay_1 ?_
  cases hf


noncomputable def fX0_pays (x1 : Int32) (σ : xS) : Option (Int32) :=
  if (fX0_in x1 (0 : Int32) (2 : Int32)) = (0 : Int32) then some (-2 : Int32) else (fX0_allPay σ).bind (fun v1 => none)
theorem wi_X0_pays : wInfV yX0_pays cX0_pays 5 (Option.some Jvm.ClassFile.FieldType.int) 1 := ⟨q1829, q1830, q106, q1831, (by decide +kernel), (by decide +kernel), (by decide +kernel)⟩
set_option maxHeartbeats 4000000 in
set_option maxRecDepth 100000 in
theorem met_X0_pays {l : Launch} {E : xG} {x1 : Int32} {σ : xS} {res : Int32} (hf : fX0_pays x1 σ = some res) : xMet l yX0_pays cX0_pays 5 (Option.some Jvm.ClassFile.FieldType.int) 1 23 E [.ref (xo E), .int x1] σ (some (.int res)) σ := by
  replace hf : (if (fX0_in x1 (0 : Int32) (2 : Int32)) = (0 : Int32) then some (-2 : Int32) else (fX0_allPay σ).bind (fun v1 => none)) = some res := hf
  refine x_start (by decide) (Nat.le_of_ble_eq_true rfl) ?_
  intro p e s m args below meth c S hnm hR hS ls hl
  obtain ⟨hx, hb, hml, hown, hts⟩ := S.1.1
  have hl : lv_has ls 5 [(0, .ref (xo E)), (1, .int x1)] := hl
  have hn : XN 0 0 (xnx σ) (xns σ) (xnx σ) (xns σ) σ := ⟨Nat.zero_add _, Nat.zero_add _, (rl1.rf σ).1, (rl1.rf σ).2⟩
  refine lv_iload_n hx hb dX0_pays_0 rfl (lv_at hl 1 rfl) ?_
  refine lv_iconst (v := 0) hx hb dX0_pays_1 (by decide) ?_
  refine lv_iconst (v := 2) hx hb dX0_pays_2 (by decide) ?_
  refine s_call (As := [.int x1, .int (0 : Int32), .int (2 : Int32)]) (rest := []) S.1.1 (met_X0_in rfl) wi_X0_in q479 ⟨rfl, rfl⟩ ⟨Nat.le_of_ble_eq_true rfl, Nat.le_of_ble_eq_true rfl⟩ rfl hl.1 rfl (Nat.le_of_ble_eq_true rfl) dX0_pays_3 hn.cs ?_
  refine lv_if_ne (tgt := 12) hx hb dX0_pays_6 (by decide) (fun c_6 => ?_) (fun c_6 => ?_)
  · replace hf := o_f hf c_6
    refine lv_aload_n hx hb dX0_pays_12 rfl (lv_at hl 0 rfl) ?_
    refine k_bind hf (fun v1 hv1 hf => ?_)
    refine x_call (C := RX0) (As := []) (rest := []) S hR hS hn (met_X0_allPay hv1) (rl1.rf _) (hn.b (rl0.rf _)) wi_X0_allPay (xrc S.2 hR (ci := 0) rfl (Or.inl ⟨rfl, rfl⟩)) rfl q1832 ⟨Nat.le_of_ble_eq_true rfl, Nat.le_of_ble_eq_true rfl⟩ rfl hl.1 rfl (Nat.le_of_ble_eq_true rfl) dX0_pays_13 (fun H locs cells slots hR hS hn => ?_)
    refine lv_iconst (v := 0) hx hb dX0_pays_16 (by decide) ?_
    refine lv_istore_n (lv' := [(2, .int (0 : Int32)), (0, .ref (xo E)), (1, .int x1)]) hx hb dX0_pays_17 rfl hl (by decide) rfl (fun ls hl => ?_)
    refine lv_aload_n hx hb dX0_pays_18 rfl (lv_at hl 1 rfl) ?_
    refine x_oget (k := 24) (v := va_rf (xT σ 1)) S hR (lk_X0_62 _ List.mem_cons_self) rfl dX0_pays_19 ?_
    cases hf
  · replace hf := o_t hf c_6
    refine lv_bipush (v := -2) hx hb dX0_pays_9 (by decide) ?_
    obtain rfl := Option.some.inj hf
    exact x_iret S hR hS hn rfl dX0_pays_11

theorem lk_X0_66 : ∀ q ∈ ([(0, 25)] : List (Nat × Nat)), wLk RX0 66 q.1 q.2 := List.forall_mem_cons.mpr ⟨⟨RX0, TX0, 32, "LinesTouched", rfl, by decide, in_X0, q403, Or.inl rfl⟩, fun _ h => absurd h List.not_mem_nil⟩
noncomputable def LX0_spent_4 (σ : xS) (q : Int32 × Int32) : Option ((Int32 × Int32) ⊕ (Int32)) :=
  if (xN σ (0 : Fin 3) 2) ≤ q.2 then some (Sum.inr q.1) else (xla 1 σ 6 q.2).bind (fun v1 => if v1 = (0 : Int32) then (some (q.1 ||| (ish (1 : Int32) q.2))).bind (fun v3 => some (Sum.inl (v3, q.2 + (1 : Int32)))) else (some (q.1 ||| (0 : Int32))).bind (fun v2 => some (Sum.inl (v2, q.2 + (1 : Int32)))))
noncomputable def fX0_spent (σ : xS) : Option (Int32) :=
  (lpw (LX0_spent_4 σ) ((0 : Int32), (0 : Int32))).bind (fun b4 => some b4)
theorem wi_X0_spent : wInfV yX0_spent cX0_spent 3 (Option.some Jvm.ClassFile.FieldType.int) 0 := ⟨q2088, qs41, q106, q2089, (by decide +kernel), (by decide +kernel), (by decide +kernel)⟩
set_option maxHeartbeats 4000000 in
set_option maxRecDepth 100000 in
theorem wbLX0_spent_4 {l : Launch} {E : xG} {p : Program} {e : Env} {s : State} {m : MethodId} {args : Array Value} {below : List Frame} {meth : Method} {c : Code} {Q : State → Prop} {n0 s0 nf sf : Nat} {σ : xS} {q : Int32 × Int32} {res : (Int32 × Int32) ⊕ (Int32)} (S : xSt E RX0 p m c cX0_spent 3 s args meth (Option.some Jvm.ClassFile.FieldType.int)) (hf : LX0_spent_4 σ q = some res) (hK : ∀ q, res = Sum.inl q → (∀ (H : Heap) (locs : List Loc) (cells slots : Nat) (ls : Array Slot), xR E σ H → va_S (xAA E) s.heap H locs → XN cells slots n0 s0 nf sf σ → lv_has ls 3 [(0, .ref (xo E)), (1, .int q.1), (2, .int q.2)] → W p l e (xRm 0 0 (nf - n0) (sf - s0)) s m args below meth c H locs cells slots Q (F0 m 4 ls []))) (hE40 : ∀ b, res = Sum.inr b → (∀ (H : Heap) (locs : List Loc) (cells slots : Nat) (ls : Array Slot), xR E σ H → va_S (xAA E) s.heap H locs → XN cells slots n0 s0 nf sf σ → lv_has ls 3 [(1, .int b)] → W p l e (xRm 0 0 (nf - n0) (sf - s0)) s m args below meth c H locs cells slots Q (F0 m 40 ls []))) : (∀ (H : Heap) (locs : List Loc) (cells slots : Nat) (ls : Array Slot), xR E σ H → va_S (xAA E) s.heap H locs → XN cells slots n0 s0 nf sf σ → lv_has ls 3 [(0, .ref (xo E)), (1, .int q.1), (2, .int q.2)] → W p l e (xRm 0 0 (nf - n0) (sf - s0)) s m args below meth c H locs cells slots Q (F0 m 4 ls [])) := by
  replace hf : (if (xN σ (0 : Fin 3) 2) ≤ q.2 then some (Sum.inr q.1) else (xla 1 σ 6 q.2).bind (fun v1 => if v1 = (0 : Int32) then (some (q.1 ||| (ish (1 : Int32) q.2))).bind (fun v3 => some (Sum.inl (v3, q.2 + (1 : Int32)))) else (some (q.1 ||| (0 : Int32))).bind (fun v2 => some (Sum.inl (v2, q.2 + (1 : Int32)))))) = some res := hf
  obtain ⟨hx, hb, hml, hown, hts⟩ := S.1.1
  intro H locs cells slots ls hR hS hn hl
  refine lv_iload_n hx hb dX0_spent_4 rfl (lv_at hl 2 rfl) ?_
  refine lv_aload_n hx hb dX0_spent_5 rfl (lv_at hl 0 rfl) ?_
  refine x_oget (k := 0) (v := .ref (xnt E (0 : Fin 3))) S hR (lk_X0_10 _ List.mem_cons_self) rfl dX0_spent_6 ?_
  refine x_ngetN (j := (0 : Fin 3)) (k := 2) (v := .int (xN σ (0 : Fin 3) 2)) S hR (lk_X0_115 _ List.mem_cons_self) rfl dX0_spent_9 ?_
  refine lv_icmp_ge (tgt := 40) hx hb dX0_spent_12 (by decide) (fun c_12 => ?_) (fun c_12 => ?_)
  · replace hf := o_t hf c_12
    exact hE40 _ (Option.some.inj hf).symm _ _ _ _ _ hR hS hn (lv_sub (l' := [(1, .int q.1)]) hl [1] rfl)
  · replace hf := o_f hf c_12
    refine lv_iload_n hx hb dX0_spent_15 rfl (lv_at hl 1 rfl) ?_
    refine lv_aload_n hx hb dX0_spent_16 rfl (lv_at hl 0 rfl) ?_
    refine x_oget (k := 25) (v := .ref (xar E 6)) S hR (lk_X0_66 _ List.mem_cons_self) rfl dX0_spent_17 ?_
    refine lv_iload_n hx hb dX0_spent_20 rfl (lv_at hl 2 rfl) ?_
    refine k_bind hf (fun v1 hv1 hf => ?_)
    refine x_sl1 S hR hv1 dX0_spent_21 ?_
    refine lv_if_ne (tgt := 31) hx hb dX0_spent_22 (by decide) (fun c_22 => ?_) (fun c_22 => ?_)
    · replace hf := o_f hf c_22
      refine lv_iconst (v := 0) hx hb dX0_spent_31 (by decide) ?_
      refine lv_ior hx hb dX0_spent_32 ?_
      refine k_bind hf (fun v2 hv2 hf => ?_)
      refine m_nmi hv2 ?_
      refine lv_istore_n (lv' := [(1, .int v2), (0, .ref (xo E)), (2, .int q.2)]) hx hb dX0_spent_33 rfl hl (by decide) rfl (fun ls hl => ?_)
      refine lv_iinc (lv' := [(2, .int (q.2 + (1 : Int32))), (1, .int v2), (0, .ref (xo E))]) hx hb dX0_spent_34 hl (k := 2) rfl (m_inc (by decide)) (by decide) rfl (fun ls hl => ?_)
      refine lv_goto (tgt := 4) hx hb dX0_spent_37 (by decide) ?_
      exact hK _ (Option.some.inj hf).symm _ _ _ _ _ hR hS hn (lv_sub (l' := [(0, .ref (xo E)), (1, .int v2), (2, .int (q.2 + (1 : Int32)))]) hl [2, 1, 0] rfl)
    · replace hf := o_t hf c_22
      refine lv_iconst (v := 1) hx hb dX0_spent_25 (by decide) ?_
      refine lv_iload_n hx hb dX0_spent_26 rfl (lv_at hl 2 rfl) ?_
      refine lv_ishl hx hb dX0_spent_27 ?_
      refine lv_goto (tgt := 32) hx hb dX0_spent_28 (by decide) ?_
      refine lv_ior hx hb dX0_spent_32 ?_
      refine k_bind hf (fun v3 hv3 hf => ?_)
      refine m_nmi hv3 ?_
      refine lv_istore_n (lv' := [(1, .int v3), (0, .ref (xo E)), (2, .int q.2)]) hx hb dX0_spent_33 rfl hl (by decide) rfl (fun ls hl => ?_)
      refine lv_iinc (lv' := [(2, .int (q.2 + (1 : Int32))), (1, .int v3), (0, .ref (xo E))]) hx hb dX0_spent_34 hl (k := 2) rfl (m_inc (by decide)) (by decide) rfl (fun ls hl => ?_)
      refine lv_goto (tgt := 4) hx hb dX0_spent_37 (by decide) ?_
      exact hK _ (Option.some.inj hf).symm _ _ _ _ _ hR hS hn (lv_sub (l' := [(0, .ref (xo E)), (1, .int v3), (2, .int (q.2 + (1 : Int32)))]) hl [2, 1, 0] rfl)
set_option maxHeartbeats 4000000 in
set_option maxRecDepth 100000 in
theorem wLX0_spent_4 {l : Launch} {E : xG} {p : Program} {e : Env} {s : State} {m : MethodId} {args : Array Value} {below : List Frame} {meth : Method} {c : Code} {Q : State → Prop} {n0 s0 nf sf : Nat} {σ : xS} {q : Int32 × Int32} {res : Int32} (S : xSt E RX0 p m c cX0_spent 3 s args meth (Option.some Jvm.ClassFile.FieldType.int)) (h : lpw (LX0_spent_4 σ) q = some res) (hE40 : ∀ b, res = b → (∀ (H : Heap) (locs : List Loc) (cells slots : Nat) (ls : Array Slot), xR E σ H → va_S (xAA E) s.heap H locs → XN cells slots n0 s0 nf sf σ → lv_has ls 3 [(1, .int b)] → W p l e (xRm 0 0 (nf - n0) (sf - s0)) s m args below meth c H locs cells slots Q (F0 m 40 ls []))) : (∀ (H : Heap) (locs : List Loc) (cells slots : Nat) (ls : Array Slot), xR E σ H → va_S (xAA E) s.heap H locs → XN cells slots n0 s0 nf sf σ → lv_has ls 3 [(0, .ref (xo E)), (1, .int q.1), (2, .int q.2)] → W p l e (xRm 0 0 (nf - n0) (sf - s0)) s m args below meth c H locs cells slots Q (F0 m 4 ls [])) :=
  lpw_go _ (fun q => (∀ (H : Heap) (locs : List Loc) (cells slots : Nat) (ls : Array Slot), xR E σ H → va_S (xAA E) s.heap H locs → XN cells slots n0 s0 nf sf σ → lv_has ls 3 [(0, .ref (xo E)), (1, .int q.1), (2, .int q.2)] → W p l e (xRm 0 0 (nf - n0) (sf - s0)) s m args below meth c H locs cells slots Q (F0 m 4 ls []))) (fun b0 => (∀ b, b0 = b → (∀ (H : Heap) (locs : List Loc) (cells slots : Nat) (ls : Array Slot), xR E σ H → va_S (xAA E) s.heap H locs → XN cells slots n0 s0 nf sf σ → lv_has ls 3 [(1, .int b)] → W p l e (xRm 0 0 (nf - n0) (sf - s0)) s m args below meth c H locs cells slots Q (F0 m 40 ls [])))) (fun q x hf hK hX => wbLX0_spent_4 S hf hK (fun b eb => (hX _ eb) b rfl)) q res h hE40
set_option maxHeartbeats 4000000 in
set_option maxRecDepth 100000 in
theorem met_X0_spent {l : Launch} {E : xG} {σ : xS} {res : Int32} (hf : fX0_spent σ = some res) : xMet l yX0_spent cX0_spent 3 (Option.some Jvm.ClassFile.FieldType.int) 0 0 E [.ref (xo E)] σ (some (.int res)) σ := by
  replace hf : ((lpw (LX0_spent_4 σ) ((0 : Int32), (0 : Int32))).bind (fun b4 => some b4)) = some res := hf
  refine x_start (by decide) (Nat.le_of_ble_eq_true rfl) ?_
  intro p e s m args below meth c S hnm hR hS ls hl
  obtain ⟨hx, hb, hml, hown, hts⟩ := S.1.1
  have hl : lv_has ls 3 [(0, .ref (xo E))] := hl
  have hn : XN 0 0 (xnx σ) (xns σ) (xnx σ) (xns σ) σ := ⟨Nat.zero_add _, Nat.zero_add _, (rl1.rf σ).1, (rl1.rf σ).2⟩
  refine lv_iconst (v := 0) hx hb dX0_spent_0 (by decide) ?_
  refine lv_istore_n (lv' := [(1, .int (0 : Int32)), (0, .ref (xo E))]) hx hb dX0_spent_1 rfl hl (by decide) rfl (fun ls hl => ?_)
  refine lv_iconst (v := 0) hx hb dX0_spent_2 (by decide) ?_
  refine lv_istore_n (lv' := [(2, .int (0 : Int32)), (1, .int (0 : Int32)), (0, .ref (xo E))]) hx hb dX0_spent_3 rfl hl (by decide) rfl (fun ls hl => ?_)
  refine k_bind hf (fun b4 hb4 hf => ?_)
  refine wLX0_spent_4 S hb4 ?_ _ _ _ _ _ hR hS hn (lv_sub (l' := [(0, .ref (xo E)), (1, .int (0 : Int32)), (2, .int (0 : Int32))]) hl [2, 1, 0] rfl)
  · intro b eb; subst eb; intro H locs cells slots ls hR hS hn hl
    refine lv_iload_n hx hb dX0_spent_40 rfl (lv_at hl 0 rfl) ?_
    obtain rfl := Option.some.inj hf
    exact x_iret S hR hS hn rfl dX0_spent_41

theorem lk_X19_15 : ∀ q ∈ ([(16, 0)] : List (Nat × Nat)), wLk RX19 15 q.1 q.2 := List.forall_mem_cons.mpr ⟨⟨RX19, TX19, 2, "LinesTouched$Line", rfl, by decide, in_X19, q1816, Or.inl rfl⟩, fun _ h => absurd h List.not_mem_nil⟩
theorem pt_X19_15 : ∀ q ∈ ([(16, 0)] : List (Nat × Nat)), wLk RX19 15 q.1 q.2 ∧ wPt q.1 q.2 .int true RX19 := List.forall_mem_cons.mpr ⟨⟨⟨RX19, TX19, 2, "LinesTouched$Line", rfl, by decide, in_X19, q1816, Or.inl rfl⟩, ⟨RX19, TX19, 2, tyX19, rfl, by decide, rfl, by decide +kernel, nmX19, tyX19_ok, fun _ => rfl⟩⟩, fun _ h => absurd h List.not_mem_nil⟩
theorem lk_X19_24 : ∀ q ∈ ([(16, 1)] : List (Nat × Nat)), wLk RX19 24 q.1 q.2 := List.forall_mem_cons.mpr ⟨⟨RX19, TX19, 2, "LinesTouched$Line", rfl, by decide, in_X19, q1817, Or.inl rfl⟩, fun _ h => absurd h List.not_mem_nil⟩
theorem pt_X19_24 : ∀ q ∈ ([(16, 1)] : List (Nat × Nat)), wLk RX19 24 q.1 q.2 ∧ wPt q.1 q.2 .int true RX19 := List.forall_mem_cons.mpr ⟨⟨⟨RX19, TX19, 2, "LinesTouched$Line", rfl, by decide, in_X19, q1817, Or.inl rfl⟩, ⟨RX19, TX19, 2, tyX19, rfl, by decide, rfl, by decide +kernel, nmX19, tyX19_ok, fun _ => rfl⟩⟩, fun _ h => absurd h List.not_mem_nil⟩
noncomputable def fX19_init (a : Nat) (x1 : Int32) (x2 : Int32) (σ : xS) : Option (xS) :=
  (xp σ [(16, 0)] a (.int (fJ6_min x1 x2))).bind (fun σ1 => (xp σ1 [(16, 1)] a (.int (fJ6_max x1 x2))).bind (fun σ2 => some σ2))
theorem wi_X19_init : wInfI yX19_init cX19_init 3 2 := ⟨q1811, q149, q1812, rfl, (by decide +kernel), (by decide +kernel), (by decide +kernel)⟩
set_option maxHeartbeats 4000000 in
set_option maxRecDepth 100000 in
theorem r0_X19_init {a : Nat} {x1 : Int32} {x2 : Int32} {σ : xS} {res : xS} (hf : fX19_init a x1 x2 σ = some res) : rl0 σ res := by
  replace hf : ((xp σ [(16, 0)] a (.int (fJ6_min x1 x2))).bind (fun σ1 => (xp σ1 [(16, 1)] a (.int (fJ6_max x1 x2))).bind (fun σ2 => some σ2))) = some res := hf
  refine k_bind hf (fun σ1 hσ1 hf => ?_)
  refine rl0.tr (r0_p hσ1) ?_
  refine k_bind hf (fun σ2 hσ2 hf => ?_)
  refine rl0.tr (r0_p hσ2) ?_
  obtain rfl := Option.some.inj hf
  exact rl0.rf _
set_option maxHeartbeats 4000000 in
set_option maxRecDepth 100000 in
theorem met_X19_init {l : Launch} {E : xG} {a : Nat} {x1 : Int32} {x2 : Int32} {σ : xS} {res : xS} (hf : fX19_init a x1 x2 σ = some res) : xMet l yX19_init cX19_init 3 (Option.none : Option Jvm.ClassFile.FieldType) 1 24 E [.ref a, .int x1, .int x2] σ none res := by
  replace hf : ((xp σ [(16, 0)] a (.int (fJ6_min x1 x2))).bind (fun σ1 => (xp σ1 [(16, 1)] a (.int (fJ6_max x1 x2))).bind (fun σ2 => some σ2))) = some res := hf
  refine x_start (by decide) (Nat.le_of_ble_eq_true rfl) ?_
  intro p e s m args below meth c S hnm hR hS ls hl
  obtain ⟨hx, hb, hml, hown, hts⟩ := S.1.1
  have hl : lv_has ls 3 [(0, .ref a), (1, .int x1), (2, .int x2)] := hl
  have hn : XN 0 0 (xnx σ) (xns σ) (xnx res) (xns res) σ := ⟨Nat.zero_add _, Nat.zero_add _, (r0_X19_init (a := a) (x1 := x1) (x2 := x2) (σ := σ) hf).le.1, (r0_X19_init (a := a) (x1 := x1) (x2 := x2) (σ := σ) hf).le.2⟩
  refine lv_aload_n hx hb dX19_init_0 rfl (lv_at hl 0 rfl) ?_
  refine W.objInit hx hb hown (hts _ q1813) (hts _ q175) (hts _ q176) rfl (by rw [hml]; exact hl.1) rfl dX19_init_1 (Nat.le_of_ble_eq_true rfl) (Nat.le_of_ble_eq_true rfl) ?_
  refine lv_aload_n hx hb dX19_init_4 rfl (lv_at hl 0 rfl) ?_
  refine lv_iload_n hx hb dX19_init_5 rfl (lv_at hl 1 rfl) ?_
  refine lv_iload_n hx hb dX19_init_6 rfl (lv_at hl 2 rfl) ?_
  refine s_call (As := [.int x1, .int x2]) (rest := [.ref a]) S.1.1 (met_J6_min rfl) wi_J6_min q1814 ⟨rfl, rfl⟩ ⟨Nat.le_of_ble_eq_true rfl, Nat.le_of_ble_eq_true rfl⟩ rfl hl.1 rfl (Nat.le_of_ble_eq_true rfl) dX19_init_7 hn.cs ?_
  refine k_bind hf (fun σ1 hσ1 hf => ?_)
  refine x_putF S hnm hR hS pt_X19_15 rfl rfl hσ1 dX19_init_10 (fun H locs hR hS => ?_)
  replace hn := hn.to (r0_p hσ1)
  refine lv_aload_n hx hb dX19_init_13 rfl (lv_at hl 0 rfl) ?_
  refine lv_iload_n hx hb dX19_init_14 rfl (lv_at hl 1 rfl) ?_
  refine lv_iload_n hx hb dX19_init_15 rfl (lv_at hl 2 rfl) ?_
  refine s_call (As := [.int x1, .int x2]) (rest := [.ref a]) S.1.1 (met_J6_max rfl) wi_J6_max q1815 ⟨rfl, rfl⟩ ⟨Nat.le_of_ble_eq_true rfl, Nat.le_of_ble_eq_true rfl⟩ rfl hl.1 rfl (Nat.le_of_ble_eq_true rfl) dX19_init_16 hn.cs ?_
  refine k_bind hf (fun σ2 hσ2 hf => ?_)
  refine x_putF S hnm hR hS pt_X19_24 rfl rfl hσ2 dX19_init_19 (fun H locs hR hS => ?_)
  replace hn := hn.to (r0_p hσ2)
  obtain rfl := Option.some.inj hf
  exact x_vret S hR hS hn dX19_init_22


noncomputable def fX0_paid (x1 : Int32) (x2 : Int32) (σ : xS) : Option (Int32 × xS) :=
  (fX0_areTwo x1 x2 σ).bind (fun v1 => if v1 = (0 : Int32) then some ((-2 : Int32), σ) else (fX0_allPay σ).bind (fun v2 => (xnw σ (.inr (16, [.int 0, .int 0])) 2).bind (fun n3 => (fX19_init n3.1 x1 x2 n3.2).bind (fun e4 => none))))
theorem wi_X0_paid : wInfV yX0_paid cX0_paid 4 (Option.some Jvm.ClassFile.FieldType.int) 2 := ⟨q2091, q2092, q106, q2093, (by decide +kernel), (by decide +kernel), (by decide +kernel)⟩
set_option maxHeartbeats 4000000 in
set_option maxRecDepth 100000 in
theorem r1_X0_paid {x1 : Int32} {x2 : Int32} {σ : xS} {res : Int32 × xS} (hf : fX0_paid x1 x2 σ = some res) : rl1 σ res.2 := by
  replace hf : ((fX0_areTwo x1 x2 σ).bind (fun v1 => if v1 = (0 : Int32) then some ((-2 : Int32), σ) else (fX0_allPay σ).bind (fun v2 => (xnw σ (.inr (16, [.int 0, .int 0])) 2).bind (fun n3 => (fX19_init n3.1 x1 x2 n3.2).bind (fun e4 => none))))) = some res := hf
  refine k_bind hf (fun v1 hv1 hf => ?_)
  by_cases c0 : v1 = (0 : Int32)
  · replace hf := o_t hf c0
    obtain rfl := Option.some.inj hf
    exact rl1.rf _
  · replace hf := o_f hf c0
    refine k_bind hf (fun v2 hv2 hf => ?_)
    refine k_bind hf (fun n3 hn3 hf => ?_)
    refine rl1.tr (r1_nw hn3) ?_
    refine k_bind hf (fun e4 he4 hf => ?_)
    refine rl0.tr1 (r0_X19_init he4) ?_
    cases hf
set_option maxHeartbeats 4000000 in
set_option maxRecDepth 100000 in
theorem met_X0_paid {l : Launch} {E : xG} {x1 : Int32} {x2 : Int32} {σ : xS} {res : Int32 × xS} (hf : fX0_paid x1 x2 σ = some res) : xMet l yX0_paid cX0_paid 4 (Option.some Jvm.ClassFile.FieldType.int) 3 65 E [.ref (xo E), .int x1, .int x2] σ (some (.int res.1)) res.2 := by
  replace hf : ((fX0_areTwo x1 x2 σ).bind (fun v1 => if v1 = (0 : Int32) then some ((-2 : Int32), σ) else (fX0_allPay σ).bind (fun v2 => (xnw σ (.inr (16, [.int 0, .int 0])) 2).bind (fun n3 => (fX19_init n3.1 x1 x2 n3.2).bind (fun e4 => none))))) = some res := hf
  refine x_start (by decide) (Nat.le_of_ble_eq_true rfl) ?_
  intro p e s m args below meth c S hnm hR hS ls hl
  obtain ⟨hx, hb, hml, hown, hts⟩ := S.1.1
  have hl : lv_has ls 4 [(0, .ref (xo E)), (1, .int x1), (2, .int x2)] := hl
  have hn : XN 0 0 (xnx σ) (xns σ) (xnx res.2) (xns res.2) σ := ⟨Nat.zero_add _, Nat.zero_add _, (r1_X0_paid (x1 := x1) (x2 := x2) (σ := σ) hf).1, (r1_X0_paid (x1 := x1) (x2 := x2) (σ := σ) hf).2⟩
  have hb9 : XB (xnx res.2) (xns res.2) res.2 := ⟨Nat.le_refl _, Nat.le_refl _⟩
  refine lv_aload_n hx hb dX0_paid_0 rfl (lv_at hl 0 rfl) ?_
  refine lv_iload_n hx hb dX0_paid_1 rfl (lv_at hl 1 rfl) ?_
  refine lv_iload_n hx hb dX0_paid_2 rfl (lv_at hl 2 rfl) ?_
  refine k_bind hf (fun v1 hv1 hf => ?_)
  refine x_call (C := RX0) (As := [.int x1, .int x2]) (rest := []) S hR hS hn (met_X0_areTwo hv1) (rl1.rf _) (hn.b (rl0.rf _)) wi_X0_areTwo (xrc S.2 hR (ci := 0) rfl (Or.inl ⟨rfl, rfl⟩)) rfl q555 ⟨Nat.le_of_ble_eq_true rfl, Nat.le_of_ble_eq_true rfl⟩ rfl hl.1 rfl (Nat.le_of_ble_eq_true rfl) dX0_paid_3 (fun H locs cells slots hR hS hn => ?_)
  refine lv_if_ne (tgt := 12) hx hb dX0_paid_6 (by decide) (fun c_6 => ?_) (fun c_6 => ?_)
  · replace hf := o_f hf c_6
    refine lv_aload_n hx hb dX0_paid_12 rfl (lv_at hl 0 rfl) ?_
    refine k_bind hf (fun v2 hv2 hf => ?_)
    refine x_call (C := RX0) (As := []) (rest := []) S hR hS hn (met_X0_allPay hv2) (rl1.rf _) (hn.b (rl0.rf _)) wi_X0_allPay (xrc S.2 hR (ci := 0) rfl (Or.inl ⟨rfl, rfl⟩)) rfl q1832 ⟨Nat.le_of_ble_eq_true rfl, Nat.le_of_ble_eq_true rfl⟩ rfl hl.1 rfl (Nat.le_of_ble_eq_true rfl) dX0_paid_13 (fun H locs cells slots hR hS hn => ?_)
    refine lv_aload_n hx hb dX0_paid_16 rfl (lv_at hl 0 rfl) ?_
    refine x_oget (k := 24) (v := va_rf (xT σ 1)) S hR (lk_X0_62 _ List.mem_cons_self) rfl dX0_paid_17 ?_
    refine k_bind hf (fun n3 hn3 hf => ?_)
    have hbn3 : XB (xnx res.2) (xns res.2) n3.2 := hb9.back (by
      refine k_bind hf (fun e4 he4 hf => ?_)
      refine rl0.tr1 (r0_X19_init he4) ?_
      cases hf)
    refine x_newQ (T := TX19) (ty := tyX19) S hR hS hn hn3 hbn3 rfl in_X19 tyX19_ok (by decide +kernel) q1808 q1809 q149 dX0_paid_20 (fun H cells slots hR hS hn => ?_)
    refine lv_dup hx hb dX0_paid_23 rfl ?_
    refine lv_iload_n hx hb dX0_paid_24 rfl (lv_at hl 1 rfl) ?_
    refine lv_iload_n hx hb dX0_paid_25 rfl (lv_at hl 2 rfl) ?_
    refine k_bind hf (fun e4 he4 hf => ?_)
    refine x_callI (As := [.int x1, .int x2]) (rest := [.ref n3.1, va_rf (xT σ 1)]) S hR hS hn (met_X19_init he4) (r0_X19_init he4).le (hn.b (r0_X19_init he4)) wi_X19_init q1810 ⟨Nat.le_of_ble_eq_true rfl, Nat.le_of_ble_eq_true rfl⟩ rfl hl.1 rfl (by simp only [List.map_cons, List.map_nil, rf_cat]; exact Nat.le_of_ble_eq_true rfl) dX0_paid_26 (fun H locs cells slots hR hS hn => ?_)
    cases hf
  · replace hf := o_t hf c_6
    refine lv_bipush (v := -2) hx hb dX0_paid_9 (by decide) ?_
    obtain rfl := Option.some.inj hf
    exact x_iret S hR hS hn rfl dX0_paid_11

theorem lk_X0_69 : ∀ q ∈ ([(0, 26)] : List (Nat × Nat)), wLk RX0 69 q.1 q.2 := List.forall_mem_cons.mpr ⟨⟨RX0, TX0, 32, "LinesTouched", rfl, by decide, in_X0, q404, Or.inl rfl⟩, fun _ h => absurd h List.not_mem_nil⟩
theorem pt_X0_168 : ∀ q ∈ ([(0, 27)] : List (Nat × Nat)), wLk RX0 168 q.1 q.2 ∧ wPt q.1 q.2 .int false RX0 := List.forall_mem_cons.mpr ⟨⟨⟨RX0, TX0, 32, "LinesTouched", rfl, by decide, in_X0, q405, Or.inl rfl⟩, ⟨RX0, TX0, 32, tyX0, rfl, by decide, rfl, by decide +kernel, nmX0, tyX0_ok, fun h => absurd h (by decide)⟩⟩, fun _ h => absurd h List.not_mem_nil⟩
noncomputable def LX0_feed_31 (y1 : Int32) (q : Int32 × xS) : Option ((Int32 × xS) ⊕ (xS)) :=
  if q.1 < (0 : Int32) then some (Sum.inr q.2) else (xsa 2 q.2 7 (xI q.2 27) ((isr y1 ((8 : Int32) * q.1)).toInt8.toInt32)).bind (fun σ2 => (xpI σ2 27 ((xI σ2 27) + (1 : Int32))).bind (fun σ3 => (some (q.1 + (-1 : Int32))).bind (fun v4 => some (Sum.inl (v4, σ3)))))
noncomputable def fX0_feed (x1 : Int32) (x2 : Int32) (σ : xS) : Option (Int32 × xS) :=
  if (fX0_in x2 (1 : Int32) (4 : Int32)) = (0 : Int32) then some ((-2 : Int32), σ) else if ((xI σ 27) + x2) ≤ (200 : Int32) then (some (x2 - (1 : Int32))).bind (fun v1 => (lpw (LX0_feed_31 x1) (v1, σ)).bind (fun b5 => some ((xI b5 27), b5))) else some ((-4 : Int32), σ)
theorem wi_X0_feed : wInfV yX0_feed cX0_feed 4 (Option.some Jvm.ClassFile.FieldType.int) 2 := ⟨q2110, q2111, q106, q2112, (by decide +kernel), (by decide +kernel), (by decide +kernel)⟩
set_option maxHeartbeats 4000000 in
set_option maxRecDepth 100000 in
theorem rsLX0_feed_31 {y1 : Int32} {q : Int32 × xS} {res : (Int32 × xS) ⊕ (xS)} (hf : LX0_feed_31 y1 q = some res) : rl0 q.2 (Sum.elim (fun q => q.2) (fun b => b) res) := by
  replace hf : (if q.1 < (0 : Int32) then some (Sum.inr q.2) else (xsa 2 q.2 7 (xI q.2 27) ((isr y1 ((8 : Int32) * q.1)).toInt8.toInt32)).bind (fun σ2 => (xpI σ2 27 ((xI σ2 27) + (1 : Int32))).bind (fun σ3 => (some (q.1 + (-1 : Int32))).bind (fun v4 => some (Sum.inl (v4, σ3)))))) = some res := hf
  by_cases c0 : q.1 < (0 : Int32)
  · replace hf := o_t hf c0
    obtain rfl := Option.some.inj hf
    exact rl0.rf _
  · replace hf := o_f hf c0
    refine k_bind hf (fun σ2 hσ2 hf => ?_)
    refine rl0.tr (r0_sa hσ2) ?_
    refine k_bind hf (fun σ3 hσ3 hf => ?_)
    refine rl0.tr (r0_pI hσ3) ?_
    refine k_bind hf (fun v4 hv4 hf => ?_)
    obtain rfl := Option.some.inj hf
    exact rl0.rf _
set_option maxHeartbeats 4000000 in
set_option maxRecDepth 100000 in
theorem rLX0_feed_31 {y1 : Int32} {q : Int32 × xS} {b : xS} (h : lpw (LX0_feed_31 y1) q = some b) : rl0 q.2 ((fun b => b) b) :=
  lpw_rel _ (fun q => q.2) (fun b => b) rl0 rl0.tr (fun _ _ hf => rsLX0_feed_31 hf) h
set_option maxHeartbeats 4000000 in
set_option maxRecDepth 100000 in
theorem r0_X0_feed {x1 : Int32} {x2 : Int32} {σ : xS} {res : Int32 × xS} (hf : fX0_feed x1 x2 σ = some res) : rl0 σ res.2 := by
  replace hf : (if (fX0_in x2 (1 : Int32) (4 : Int32)) = (0 : Int32) then some ((-2 : Int32), σ) else if ((xI σ 27) + x2) ≤ (200 : Int32) then (some (x2 - (1 : Int32))).bind (fun v1 => (lpw (LX0_feed_31 x1) (v1, σ)).bind (fun b5 => some ((xI b5 27), b5))) else some ((-4 : Int32), σ)) = some res := hf
  by_cases c0 : (fX0_in x2 (1 : Int32) (4 : Int32)) = (0 : Int32)
  · replace hf := o_t hf c0
    obtain rfl := Option.some.inj hf
    exact rl0.rf _
  · replace hf := o_f hf c0
    by_cases c0 : ((xI σ 27) + x2) ≤ (200 : Int32)
    · replace hf := o_t hf c0
      refine k_bind hf (fun v1 hv1 hf => ?_)
      refine k_bind hf (fun b5 hb5 hf => ?_)
      refine rl0.tr (rLX0_feed_31 hb5) ?_
      obtain rfl := Option.some.inj hf
      exact rl0.rf _
    · replace hf := o_f hf c0
      obtain rfl := Option.some.inj hf
      exact rl0.rf _
set_option maxHeartbeats 4000000 in
set_option maxRecDepth 100000 in
theorem wbLX0_feed_31 {l : Launch} {E : xG} {p : Program} {e : Env} {s : State} {m : MethodId} {args : Array Value} {below : List Frame} {meth : Method} {c : Code} {Q : State → Prop} {n0 s0 nf sf : Nat} {y1 : Int32} {q : Int32 × xS} {res : (Int32 × xS) ⊕ (xS)} (S : xSt E RX0 p m c cX0_feed 4 s args meth (Option.some Jvm.ClassFile.FieldType.int)) (hf : LX0_feed_31 y1 q = some res) (hK : ∀ q, res = Sum.inl q → (∀ (H : Heap) (locs : List Loc) (cells slots : Nat) (ls : Array Slot), xR E q.2 H → va_S (xAA E) s.heap H locs → XN cells slots n0 s0 nf sf q.2 → lv_has ls 4 [(0, .ref (xo E)), (1, .int y1), (3, .int q.1)] → W p l e (xRm 1 22 (nf - n0) (sf - s0)) s m args below meth c H locs cells slots Q (F0 m 31 ls []))) (hE67 : ∀ b, res = Sum.inr b → (∀ (H : Heap) (locs : List Loc) (cells slots : Nat) (ls : Array Slot), xR E b H → va_S (xAA E) s.heap H locs → XN cells slots n0 s0 nf sf b → lv_has ls 4 [(0, .ref (xo E))] → W p l e (xRm 1 22 (nf - n0) (sf - s0)) s m args below meth c H locs cells slots Q (F0 m 67 ls []))) : (∀ (H : Heap) (locs : List Loc) (cells slots : Nat) (ls : Array Slot), xR E q.2 H → va_S (xAA E) s.heap H locs → XN cells slots n0 s0 nf sf q.2 → lv_has ls 4 [(0, .ref (xo E)), (1, .int y1), (3, .int q.1)] → W p l e (xRm 1 22 (nf - n0) (sf - s0)) s m args below meth c H locs cells slots Q (F0 m 31 ls [])) := by
  replace hf : (if q.1 < (0 : Int32) then some (Sum.inr q.2) else (xsa 2 q.2 7 (xI q.2 27) ((isr y1 ((8 : Int32) * q.1)).toInt8.toInt32)).bind (fun σ2 => (xpI σ2 27 ((xI σ2 27) + (1 : Int32))).bind (fun σ3 => (some (q.1 + (-1 : Int32))).bind (fun v4 => some (Sum.inl (v4, σ3)))))) = some res := hf
  obtain ⟨hx, hb, hml, hown, hts⟩ := S.1.1
  intro H locs cells slots ls hR hS hn hl
  refine lv_iload_n hx hb dX0_feed_31 rfl (lv_at hl 2 rfl) ?_
  refine lv_if_lt (tgt := 67) hx hb dX0_feed_32 (by decide) (fun c_32 => ?_) (fun c_32 => ?_)
  · replace hf := o_t hf c_32
    exact hE67 _ (Option.some.inj hf).symm _ _ _ _ _ hR hS hn (lv_sub (l' := [(0, .ref (xo E))]) hl [0] rfl)
  · replace hf := o_f hf c_32
    refine lv_aload_n hx hb dX0_feed_35 rfl (lv_at hl 0 rfl) ?_
    refine x_oget (k := 26) (v := .ref (xar E 7)) S hR (lk_X0_69 _ List.mem_cons_self) rfl dX0_feed_36 ?_
    refine lv_aload_n hx hb dX0_feed_39 rfl (lv_at hl 0 rfl) ?_
    refine x_oget (k := 27) (v := .int (xI q.2 27)) S hR (lk_X0_168 _ List.mem_cons_self) rfl dX0_feed_40 ?_
    refine lv_iload_n hx hb dX0_feed_43 rfl (lv_at hl 1 rfl) ?_
    refine lv_bipush (v := 8) hx hb dX0_feed_44 (by decide) ?_
    refine lv_iload_n hx hb dX0_feed_46 rfl (lv_at hl 2 rfl) ?_
    refine lv_imul hx hb dX0_feed_47 ?_
    refine lv_ishr hx hb dX0_feed_48 ?_
    refine lv_i2b hx hb dX0_feed_49 rfl ?_
    refine k_bind hf (fun σ2 hσ2 hf => ?_)
    refine x_ss2 S hR hS hσ2 dX0_feed_50 (fun H locs hR hS => ?_)
    replace hn := hn.to (r0_sa hσ2)
    refine lv_aload_n hx hb dX0_feed_51 rfl (lv_at hl 0 rfl) ?_
    refine lv_dup hx hb dX0_feed_52 rfl ?_
    refine x_oget (k := 27) (v := .int (xI σ2 27)) S hR (lk_X0_168 _ List.mem_cons_self) rfl dX0_feed_53 ?_
    refine lv_iconst (v := 1) hx hb dX0_feed_56 (by decide) ?_
    refine lv_iadd hx hb dX0_feed_57 ?_
    refine k_bind hf (fun σ3 hσ3 hf => ?_)
    refine x_oput (k := 27) S hR hS hσ3 rfl (pt_X0_168 _ List.mem_cons_self).1 (pt_X0_168 _ List.mem_cons_self).2 rfl rfl (by decide) dX0_feed_58 (fun H locs hR hS => ?_)
    replace hn := hn.to (r0_pI hσ3)
    refine k_bind hf (fun v4 hv4 hf => ?_)
    refine lv_iinc (lv' := [(3, .int v4), (0, .ref (xo E)), (1, .int y1)]) hx hb dX0_feed_61 hl (k := 2) rfl ((m_inc (by decide)).trans (Option.some.inj hv4)) (by decide) rfl (fun ls hl => ?_)
    refine lv_goto (tgt := 31) hx hb dX0_feed_64 (by decide) ?_
    exact hK _ (Option.some.inj hf).symm _ _ _ _ _ hR hS hn (lv_sub (l' := [(0, .ref (xo E)), (1, .int y1), (3, .int v4)]) hl [1, 2, 0] rfl)
set_option maxHeartbeats 4000000 in
set_option maxRecDepth 100000 in
theorem wLX0_feed_31 {l : Launch} {E : xG} {p : Program} {e : Env} {s : State} {m : MethodId} {args : Array Value} {below : List Frame} {meth : Method} {c : Code} {Q : State → Prop} {n0 s0 nf sf : Nat} {y1 : Int32} {q : Int32 × xS} {res : xS} (S : xSt E RX0 p m c cX0_feed 4 s args meth (Option.some Jvm.ClassFile.FieldType.int)) (h : lpw (LX0_feed_31 y1) q = some res) (hE67 : ∀ b, res = b → (∀ (H : Heap) (locs : List Loc) (cells slots : Nat) (ls : Array Slot), xR E b H → va_S (xAA E) s.heap H locs → XN cells slots n0 s0 nf sf b → lv_has ls 4 [(0, .ref (xo E))] → W p l e (xRm 1 22 (nf - n0) (sf - s0)) s m args below meth c H locs cells slots Q (F0 m 67 ls []))) : (∀ (H : Heap) (locs : List Loc) (cells slots : Nat) (ls : Array Slot), xR E q.2 H → va_S (xAA E) s.heap H locs → XN cells slots n0 s0 nf sf q.2 → lv_has ls 4 [(0, .ref (xo E)), (1, .int y1), (3, .int q.1)] → W p l e (xRm 1 22 (nf - n0) (sf - s0)) s m args below meth c H locs cells slots Q (F0 m 31 ls [])) :=
  lpw_go _ (fun q => (∀ (H : Heap) (locs : List Loc) (cells slots : Nat) (ls : Array Slot), xR E q.2 H → va_S (xAA E) s.heap H locs → XN cells slots n0 s0 nf sf q.2 → lv_has ls 4 [(0, .ref (xo E)), (1, .int y1), (3, .int q.1)] → W p l e (xRm 1 22 (nf - n0) (sf - s0)) s m args below meth c H locs cells slots Q (F0 m 31 ls []))) (fun b0 => (∀ b, b0 = b → (∀ (H : Heap) (locs : List Loc) (cells slots : Nat) (ls : Array Slot), xR E b H → va_S (xAA E) s.heap H locs → XN cells slots n0 s0 nf sf b → lv_has ls 4 [(0, .ref (xo E))] → W p l e (xRm 1 22 (nf - n0) (sf - s0)) s m args below meth c H locs cells slots Q (F0 m 67 ls [])))) (fun q x hf hK hX => wbLX0_feed_31 S hf hK (fun b eb => (hX _ eb) b rfl)) q res h hE67
set_option maxHeartbeats 4000000 in
set_option maxRecDepth 100000 in
theorem met_X0_feed {l : Launch} {E : xG} {x1 : Int32} {x2 : Int32} {σ : xS} {res : Int32 × xS} (hf : fX0_feed x1 x2 σ = some res) : xMet l yX0_feed cX0_feed 4 (Option.some Jvm.ClassFile.FieldType.int) 1 22 E [.ref (xo E), .int x1, .int x2] σ (some (.int res.1)) res.2 := by
  replace hf : (if (fX0_in x2 (1 : Int32) (4 : Int32)) = (0 : Int32) then some ((-2 : Int32), σ) else if ((xI σ 27) + x2) ≤ (200 : Int32) then (some (x2 - (1 : Int32))).bind (fun v1 => (lpw (LX0_feed_31 x1) (v1, σ)).bind (fun b5 => some ((xI b5 27), b5))) else some ((-4 : Int32), σ)) = some res := hf
  refine x_start (by decide) (Nat.le_of_ble_eq_true rfl) ?_
  intro p e s m args below meth c S hnm hR hS ls hl
  obtain ⟨hx, hb, hml, hown, hts⟩ := S.1.1
  have hl : lv_has ls 4 [(0, .ref (xo E)), (1, .int x1), (2, .int x2)] := hl
  have hn : XN 0 0 (xnx σ) (xns σ) (xnx res.2) (xns res.2) σ := ⟨Nat.zero_add _, Nat.zero_add _, (r0_X0_feed (x1 := x1) (x2 := x2) (σ := σ) hf).le.1, (r0_X0_feed (x1 := x1) (x2 := x2) (σ := σ) hf).le.2⟩
  refine lv_iload_n hx hb dX0_feed_0 rfl (lv_at hl 2 rfl) ?_
  refine lv_iconst (v := 1) hx hb dX0_feed_1 (by decide) ?_
  refine lv_iconst (v := 4) hx hb dX0_feed_2 (by decide) ?_
  refine s_call (As := [.int x2, .int (1 : Int32), .int (4 : Int32)]) (rest := []) S.1.1 (met_X0_in rfl) wi_X0_in q479 ⟨rfl, rfl⟩ ⟨Nat.le_of_ble_eq_true rfl, Nat.le_of_ble_eq_true rfl⟩ rfl hl.1 rfl (Nat.le_of_ble_eq_true rfl) dX0_feed_3 hn.cs ?_
  refine lv_if_ne (tgt := 12) hx hb dX0_feed_6 (by decide) (fun c_6 => ?_) (fun c_6 => ?_)
  · replace hf := o_f hf c_6
    refine lv_aload_n hx hb dX0_feed_12 rfl (lv_at hl 0 rfl) ?_
    refine x_oget (k := 27) (v := .int (xI σ 27)) S hR (lk_X0_168 _ List.mem_cons_self) rfl dX0_feed_13 ?_
    refine lv_iload_n hx hb dX0_feed_16 rfl (lv_at hl 2 rfl) ?_
    refine lv_iadd hx hb dX0_feed_17 ?_
    refine lv_sipush (v := 200) hx hb dX0_feed_18 (by decide) ?_
    refine lv_icmp_le (tgt := 27) hx hb dX0_feed_21 (by decide) (fun c_21 => ?_) (fun c_21 => ?_)
    · replace hf := o_t hf c_21
      refine lv_iload_n hx hb dX0_feed_27 rfl (lv_at hl 2 rfl) ?_
      refine lv_iconst (v := 1) hx hb dX0_feed_28 (by decide) ?_
      refine lv_isub hx hb dX0_feed_29 ?_
      refine k_bind hf (fun v1 hv1 hf => ?_)
      refine m_nmi hv1 ?_
      refine lv_istore_n (lv' := [(3, .int v1), (0, .ref (xo E)), (1, .int x1), (2, .int x2)]) hx hb dX0_feed_30 rfl hl (by decide) rfl (fun ls hl => ?_)
      refine k_bind hf (fun b5 hb5 hf => ?_)
      refine wLX0_feed_31 S hb5 ?_ _ _ _ _ _ hR hS hn (lv_sub (l' := [(0, .ref (xo E)), (1, .int x1), (3, .int v1)]) hl [1, 2, 0] rfl)
      · intro b eb; subst eb; intro H locs cells slots ls hR hS hn hl
        refine lv_aload_n hx hb dX0_feed_67 rfl (lv_at hl 0 rfl) ?_
        refine x_oget (k := 27) (v := .int (xI b5 27)) S hR (lk_X0_168 _ List.mem_cons_self) rfl dX0_feed_68 ?_
        obtain rfl := Option.some.inj hf
        exact x_iret S hR hS hn rfl dX0_feed_71
    · replace hf := o_f hf c_21
      refine lv_bipush (v := -4) hx hb dX0_feed_24 (by decide) ?_
      obtain rfl := Option.some.inj hf
      exact x_iret S hR hS hn rfl dX0_feed_26
  · replace hf := o_t hf c_6
    refine lv_bipush (v := -2) hx hb dX0_feed_9 (by decide) ?_
    obtain rfl := Option.some.inj hf
    exact x_iret S hR hS hn rfl dX0_feed_11


noncomputable def fX0_wipe (σ : xS) : Option (Int32 × xS) :=
  (some (xI σ 27)).bind (fun v1 => (xpI σ 27 (0 : Int32)).bind (fun σ2 => some (v1, σ2)))
theorem wi_X0_wipe : wInfV yX0_wipe cX0_wipe 2 (Option.some Jvm.ClassFile.FieldType.int) 0 := ⟨q2114, q2115, q106, q2116, (by decide +kernel), (by decide +kernel), (by decide +kernel)⟩
set_option maxHeartbeats 4000000 in
set_option maxRecDepth 100000 in
theorem r0_X0_wipe {σ : xS} {res : Int32 × xS} (hf : fX0_wipe σ = some res) : rl0 σ res.2 := by
  replace hf : ((some (xI σ 27)).bind (fun v1 => (xpI σ 27 (0 : Int32)).bind (fun σ2 => some (v1, σ2)))) = some res := hf
  refine k_bind hf (fun v1 hv1 hf => ?_)
  refine k_bind hf (fun σ2 hσ2 hf => ?_)
  refine rl0.tr (r0_pI hσ2) ?_
  obtain rfl := Option.some.inj hf
  exact rl0.rf _
set_option maxHeartbeats 4000000 in
set_option maxRecDepth 100000 in
theorem met_X0_wipe {l : Launch} {E : xG} {σ : xS} {res : Int32 × xS} (hf : fX0_wipe σ = some res) : xMet l yX0_wipe cX0_wipe 2 (Option.some Jvm.ClassFile.FieldType.int) 0 0 E [.ref (xo E)] σ (some (.int res.1)) res.2 := by
  replace hf : ((some (xI σ 27)).bind (fun v1 => (xpI σ 27 (0 : Int32)).bind (fun σ2 => some (v1, σ2)))) = some res := hf
  refine x_start (by decide) (Nat.le_of_ble_eq_true rfl) ?_
  intro p e s m args below meth c S hnm hR hS ls hl
  obtain ⟨hx, hb, hml, hown, hts⟩ := S.1.1
  have hl : lv_has ls 2 [(0, .ref (xo E))] := hl
  have hn : XN 0 0 (xnx σ) (xns σ) (xnx res.2) (xns res.2) σ := ⟨Nat.zero_add _, Nat.zero_add _, (r0_X0_wipe (σ := σ) hf).le.1, (r0_X0_wipe (σ := σ) hf).le.2⟩
  refine lv_aload_n hx hb dX0_wipe_0 rfl (lv_at hl 0 rfl) ?_
  refine x_oget (k := 27) (v := .int (xI σ 27)) S hR (lk_X0_168 _ List.mem_cons_self) rfl dX0_wipe_1 ?_
  refine k_bind hf (fun v1 hv1 hf => ?_)
  refine m_nmi hv1 ?_
  refine lv_istore_n (lv' := [(1, .int v1), (0, .ref (xo E))]) hx hb dX0_wipe_4 rfl hl (by decide) rfl (fun ls hl => ?_)
  refine lv_aload_n hx hb dX0_wipe_5 rfl (lv_at hl 1 rfl) ?_
  refine lv_iconst (v := 0) hx hb dX0_wipe_6 (by decide) ?_
  refine k_bind hf (fun σ2 hσ2 hf => ?_)
  refine x_oput (k := 27) S hR hS hσ2 rfl (pt_X0_168 _ List.mem_cons_self).1 (pt_X0_168 _ List.mem_cons_self).2 rfl rfl (by decide) dX0_wipe_7 (fun H locs hR hS => ?_)
  replace hn := hn.to (r0_pI hσ2)
  refine lv_iload_n hx hb dX0_wipe_10 rfl (lv_at hl 0 rfl) ?_
  obtain rfl := Option.some.inj hf
  exact x_iret S hR hS hn rfl dX0_wipe_11

theorem lk_X0_545 : ∀ q ∈ ([(19, 2)] : List (Nat × Nat)), wLkN RX0 545 q.1 q.2 := List.forall_mem_cons.mpr ⟨⟨RX22, TX22, 7, "LinesTouched", rfl, by decide, in_X22, q2265⟩, fun _ h => absurd h List.not_mem_nil⟩
theorem lk_X0_561 : ∀ q ∈ ([(19, 4)] : List (Nat × Nat)), wLkN RX0 561 q.1 q.2 := List.forall_mem_cons.mpr ⟨⟨RX22, TX22, 7, "LinesTouched", rfl, by decide, in_X22, q2268⟩, fun _ h => absurd h List.not_mem_nil⟩
noncomputable def LX0_bareOf_14 (rec : (Option Nat) → (Option Nat) → xS → Option (xS)) (y2 : Option Nat) (q : Int64 × Int64 × Int64 × (Option Nat) × xS) : Option ((Int64 × Int64 × Int64 × (Option Nat) × xS) ⊕ (Int64 × Int64 × Int64 × xS)) :=
  if q.2.2.2.1 = none then some (Sum.inr (q.1, q.2.1, q.2.2.1, q.2.2.2.2)) else (xna q.2.2.2.2 4 (3 : Int32)).bind (fun n3 => (rec q.2.2.2.1 (some n3.1) n3.2).bind (fun e4 => (xdlJ e4 n3.1 (1 : Int32)).bind (fun v5 => (xdlJ e4 n3.1 (2 : Int32)).bind (fun v6 => (some (q.1 * (v5 + v6))).bind (fun v7 => (xdlJ e4 n3.1 (0 : Int32)).bind (fun v8 => (xdlJ e4 n3.1 (1 : Int32)).bind (fun v9 => (some (q.2.1 * (v8 + v9))).bind (fun v10 => (xdlJ e4 n3.1 (1 : Int32)).bind (fun v11 => (some (q.2.2.1 * v11)).bind (fun v12 => (q.2.2.2.1).bind (fun a13 => (xgR e4 [(19, 4)] a13).bind (fun v14 => some (Sum.inl (v7, v10, v12, v14, e4))))))))))))))
noncomputable def BX0_bareOf (rec : (Option Nat) → (Option Nat) → xS → Option (xS)) (x1 : Option Nat) (x2 : Option Nat) (σ : xS) : Option (xS) :=
  (x1).bind (fun a1 => (xgR σ [(19, 2)] a1).bind (fun v2 => (lpw (LX0_bareOf_14 rec x2) ((1 : Int64), (1 : Int64), (1 : Int64), v2, σ)).bind (fun b15 => (x2).bind (fun a16 => (xdsJ b15.2.2.2 a16 (0 : Int32) b15.1).bind (fun σ17 => (x2).bind (fun a18 => (xdsJ σ17 a18 (1 : Int32) (b15.2.1 - b15.2.2.1)).bind (fun σ19 => (x2).bind (fun a20 => (xdsJ σ19 a20 (2 : Int32) b15.2.2.1).bind (fun σ21 => some σ21)))))))))
noncomputable def fX0_bareOf : Nat → (Option Nat) → (Option Nat) → xS → Option (xS)
  | 0 => fun _ _ _ => none
  | d + 1 => BX0_bareOf (fX0_bareOf d)
theorem wi_X0_bareOf : wInfV yX0_bareOf cX0_bareOf 11 (Option.none : Option Jvm.ClassFile.FieldType) 2 := ⟨q2349, qs53, q106, q2350, (by decide +kernel), (by decide +kernel), (by decide +kernel)⟩
set_option maxHeartbeats 4000000 in
set_option maxRecDepth 100000 in
theorem rsLX0_bareOf_14 {rec : (Option Nat) → (Option Nat) → xS → Option (xS)} {y2 : Option Nat} {q : Int64 × Int64 × Int64 × (Option Nat) × xS} {res : (Int64 × Int64 × Int64 × (Option Nat) × xS) ⊕ (Int64 × Int64 × Int64 × xS)} (hrel : ∀ {x1 : Option Nat} {x2 : Option Nat} {σ : xS} {res : xS}, rec x1 x2 σ = some res → rl1 σ res) (hf : LX0_bareOf_14 rec y2 q = some res) : rl1 q.2.2.2.2 (Sum.elim (fun q => q.2.2.2.2) (fun b => b.2.2.2) res) := by
  replace hf : (if q.2.2.2.1 = none then some (Sum.inr (q.1, q.2.1, q.2.2.1, q.2.2.2.2)) else (xna q.2.2.2.2 4 (3 : Int32)).bind (fun n3 => (rec q.2.2.2.1 (some n3.1) n3.2).bind (fun e4 => (xdlJ e4 n3.1 (1 : Int32)).bind (fun v5 => (xdlJ e4 n3.1 (2 : Int32)).bind (fun v6 => (some (q.1 * (v5 + v6))).bind (fun v7 => (xdlJ e4 n3.1 (0 : Int32)).bind (fun v8 => (xdlJ e4 n3.1 (1 : Int32)).bind (fun v9 => (some (q.2.1 * (v8 + v9))).bind (fun v10 => (xdlJ e4 n3.1 (1 : Int32)).bind (fun v11 => (some (q.2.2.1 * v11)).bind (fun v12 => (q.2.2.2.1).bind (fun a13 => (xgR e4 [(19, 4)] a13).bind (fun v14 => some (Sum.inl (v7, v10, v12, v14, e4))))))))))))))) = some res := hf
  by_cases c0 : q.2.2.2.1 = none
  · replace hf := o_t hf c0
    obtain rfl := Option.some.inj hf
    exact rl1.rf _
  · replace hf := o_f hf c0
    refine k_bind hf (fun n3 hn3 hf => ?_)
    refine rl1.tr (r1_na hn3) ?_
    refine k_bind hf (fun e4 he4 hf => ?_)
    refine rl1.tr (hrel he4) ?_
    refine k_bind hf (fun v5 hv5 hf => ?_)
    refine k_bind hf (fun v6 hv6 hf => ?_)
    refine k_bind hf (fun v7 hv7 hf => ?_)
    refine k_bind hf (fun v8 hv8 hf => ?_)
    refine k_bind hf (fun v9 hv9 hf => ?_)
    refine k_bind hf (fun v10 hv10 hf => ?_)
    refine k_bind hf (fun v11 hv11 hf => ?_)
    refine k_bind hf (fun v12 hv12 hf => ?_)
    refine k_bind hf (fun a13 ha13 hf => ?_)
    refine k_bind hf (fun v14 hv14 hf => ?_)
    obtain rfl := Option.some.inj hf
    exact rl1.rf _
set_option maxHeartbeats 4000000 in
set_option maxRecDepth 100000 in
theorem rLX0_bareOf_14 {rec : (Option Nat) → (Option Nat) → xS → Option (xS)} {y2 : Option Nat} {q : Int64 × Int64 × Int64 × (Option Nat) × xS} {b : Int64 × Int64 × Int64 × xS} (hrel : ∀ {x1 : Option Nat} {x2 : Option Nat} {σ : xS} {res : xS}, rec x1 x2 σ = some res → rl1 σ res) (h : lpw (LX0_bareOf_14 rec y2) q = some b) : rl1 q.2.2.2.2 ((fun b => b.2.2.2) b) :=
  lpw_rel _ (fun q => q.2.2.2.2) (fun b => b.2.2.2) rl1 rl1.tr (fun _ _ hf => rsLX0_bareOf_14 hrel hf) h
set_option maxHeartbeats 4000000 in
set_option maxRecDepth 100000 in
theorem rB_X0_bareOf {rec : (Option Nat) → (Option Nat) → xS → Option (xS)} {x1 : Option Nat} {x2 : Option Nat} {σ : xS} {res : xS} (hrel : ∀ {x1 : Option Nat} {x2 : Option Nat} {σ : xS} {res : xS}, rec x1 x2 σ = some res → rl1 σ res) (hf : BX0_bareOf rec x1 x2 σ = some res) : rl1 σ res := by
  replace hf : ((x1).bind (fun a1 => (xgR σ [(19, 2)] a1).bind (fun v2 => (lpw (LX0_bareOf_14 rec x2) ((1 : Int64), (1 : Int64), (1 : Int64), v2, σ)).bind (fun b15 => (x2).bind (fun a16 => (xdsJ b15.2.2.2 a16 (0 : Int32) b15.1).bind (fun σ17 => (x2).bind (fun a18 => (xdsJ σ17 a18 (1 : Int32) (b15.2.1 - b15.2.2.1)).bind (fun σ19 => (x2).bind (fun a20 => (xdsJ σ19 a20 (2 : Int32) b15.2.2.1).bind (fun σ21 => some σ21)))))))))) = some res := hf
  refine k_bind hf (fun a1 ha1 hf => ?_)
  refine k_bind hf (fun v2 hv2 hf => ?_)
  refine k_bind hf (fun b15 hb15 hf => ?_)
  refine rl1.tr (rLX0_bareOf_14 hrel hb15) ?_
  refine k_bind hf (fun a16 ha16 hf => ?_)
  refine k_bind hf (fun σ17 hσ17 hf => ?_)
  refine rl0.tr1 (r0_dsJ hσ17) ?_
  refine k_bind hf (fun a18 ha18 hf => ?_)
  refine k_bind hf (fun σ19 hσ19 hf => ?_)
  refine rl0.tr1 (r0_dsJ hσ19) ?_
  refine k_bind hf (fun a20 ha20 hf => ?_)
  refine k_bind hf (fun σ21 hσ21 hf => ?_)
  refine rl0.tr1 (r0_dsJ hσ21) ?_
  obtain rfl := Option.some.inj hf
  exact rl1.rf _
set_option maxHeartbeats 4000000 in
set_option maxRecDepth 100000 in
theorem r1_X0_bareOf : ∀ {d : Nat} {x1 : Option Nat} {x2 : Option Nat} {σ : xS} {res : xS}, fX0_bareOf d x1 x2 σ = some res → rl1 σ res := by
  intro d
  induction d with
  | zero => intro  x1 x2 σ res hf; cases hf
  | succ d ih => intro  x1 x2 σ res hf; exact rB_X0_bareOf (fun h => ih h) hf
set_option maxHeartbeats 4000000 in
set_option maxRecDepth 100000 in
theorem wbLX0_bareOf_14 {l : Launch} {E : xG} {p : Program} {e : Env} {s : State} {m : MethodId} {args : Array Value} {below : List Frame} {meth : Method} {c : Code} {d : Nat} {rec : (Option Nat) → (Option Nat) → xS → Option (xS)} {Q : State → Prop} {n0 s0 nf sf : Nat} {y2 : Option Nat} {q : Int64 × Int64 × Int64 × (Option Nat) × xS} {res : (Int64 × Int64 × Int64 × (Option Nat) × xS) ⊕ (Int64 × Int64 × Int64 × xS)} (S : xSt E RX0 p m c cX0_bareOf 11 s args meth (Option.none : Option Jvm.ClassFile.FieldType)) (hrec : ∀ {x1 : Option Nat} {x2 : Option Nat} {σ : xS} {res : xS}, rec x1 x2 σ = some res → xMet l yX0_bareOf cX0_bareOf 11 (Option.none : Option Jvm.ClassFile.FieldType) (d + 0) (30 * (d) + 0) E [.ref (xo E), va_rf x1, va_rf x2] σ none res) (hrel : ∀ {x1 : Option Nat} {x2 : Option Nat} {σ : xS} {res : xS}, rec x1 x2 σ = some res → rl1 σ res) (hf : LX0_bareOf_14 rec y2 q = some res) (hK : ∀ q, res = Sum.inl q → (∀ (H : Heap) (locs : List Loc) (cells slots : Nat) (ls : Array Slot), xR E q.2.2.2.2 H → va_S (xAA E) s.heap H locs → XN cells slots n0 s0 nf sf q.2.2.2.2 → lv_has ls 11 [(0, .ref (xo E)), (2, va_rf y2), (3, .long q.1), (5, .long q.2.1), (7, .long q.2.2.1), (9, va_rf q.2.2.2.1)] → W p l e (xRm (d + 1 + 0) (30 * (d + 1) + 0) (nf - n0) (sf - s0)) s m args below meth c H locs cells slots Q (F0 m 14 ls []))) (hE77 : ∀ b, res = Sum.inr b → (∀ (H : Heap) (locs : List Loc) (cells slots : Nat) (ls : Array Slot), xR E b.2.2.2 H → va_S (xAA E) s.heap H locs → XN cells slots n0 s0 nf sf b.2.2.2 → lv_has ls 11 [(2, va_rf y2), (3, .long b.1), (5, .long b.2.1), (7, .long b.2.2.1)] → W p l e (xRm (d + 1 + 0) (30 * (d + 1) + 0) (nf - n0) (sf - s0)) s m args below meth c H locs cells slots Q (F0 m 77 ls []))) (hb9 : XB nf sf (Sum.elim (fun q => q.2.2.2.2) (fun b => b.2.2.2) res)) : (∀ (H : Heap) (locs : List Loc) (cells slots : Nat) (ls : Array Slot), xR E q.2.2.2.2 H → va_S (xAA E) s.heap H locs → XN cells slots n0 s0 nf sf q.2.2.2.2 → lv_has ls 11 [(0, .ref (xo E)), (2, va_rf y2), (3, .long q.1), (5, .long q.2.1), (7, .long q.2.2.1), (9, va_rf q.2.2.2.1)] → W p l e (xRm (d + 1 + 0) (30 * (d + 1) + 0) (nf - n0) (sf - s0)) s m args below meth c H locs cells slots Q (F0 m 14 ls [])) := by
  replace hf : (if q.2.2.2.1 = none then some (Sum.inr (q.1, q.2.1, q.2.2.1, q.2.2.2.2)) else (xna q.2.2.2.2 4 (3 : Int32)).bind (fun n3 => (rec q.2.2.2.1 (some n3.1) n3.2).bind (fun e4 => (xdlJ e4 n3.1 (1 : Int32)).bind (fun v5 => (xdlJ e4 n3.1 (2 : Int32)).bind (fun v6 => (some (q.1 * (v5 + v6))).bind (fun v7 => (xdlJ e4 n3.1 (0 : Int32)).bind (fun v8 => (xdlJ e4 n3.1 (1 : Int32)).bind (fun v9 => (some (q.2.1 * (v8 + v9))).bind (fun v10 => (xdlJ e4 n3.1 (1 : Int32)).bind (fun v11 => (some (q.2.2.1 * v11)).bind (fun v12 => (q.2.2.2.1).bind (fun a13 => (xgR e4 [(19, 4)] a13).bind (fun v14 => some (Sum.inl (v7, v10, v12, v14, e4))))))))))))))) = some res := hf
  obtain ⟨hx, hb, hml, hown, hts⟩ := S.1.1
  intro H locs cells slots ls hR hS hn hl
  refine x_aload (r := q.2.2.2.1) hx hb dX0_bareOf_14 (lv_at hl 5 rfl) ?_
  refine x_ifnull (r := q.2.2.2.1) (tgt := 77) hx hb dX0_bareOf_16 (by decide) (fun c_16 => ?_) (fun c_16 => ?_)
  · replace hf := o_t hf c_16
    exact hE77 _ (Option.some.inj hf).symm _ _ _ _ _ hR hS hn (lv_sub (l' := [(2, va_rf y2), (3, .long q.1), (5, .long q.2.1), (7, .long q.2.2.1)]) hl [1, 2, 3, 4] rfl)
  · replace hf := o_f hf c_16
    refine lv_iconst (v := 3) hx hb dX0_bareOf_19 (by decide) ?_
    refine k_bind hf (fun n3 hn3 hf => ?_)
    have hbn3 : XB nf sf n3.2 := hb9.back (by
      refine k_bind hf (fun e4 he4 hf => ?_)
      refine rl1.tr (hrel he4) ?_
      refine k_bind hf (fun v5 hv5 hf => ?_)
      refine k_bind hf (fun v6 hv6 hf => ?_)
      refine k_bind hf (fun v7 hv7 hf => ?_)
      refine k_bind hf (fun v8 hv8 hf => ?_)
      refine k_bind hf (fun v9 hv9 hf => ?_)
      refine k_bind hf (fun v10 hv10 hf => ?_)
      refine k_bind hf (fun v11 hv11 hf => ?_)
      refine k_bind hf (fun v12 hv12 hf => ?_)
      refine k_bind hf (fun a13 ha13 hf => ?_)
      refine k_bind hf (fun v14 hv14 hf => ?_)
      obtain rfl := Option.some.inj hf
      exact rl1.rf _)
    refine x_newa (t := 4) (atype := .long) S hR hS hn hn3 hbn3 rfl (by decide) (by decide) q2351 dX0_bareOf_20 (fun H cells slots hR hS hn => ?_)
    refine x_astore (r := (some n3.1)) (lv' := [(10, .ref n3.1), (0, .ref (xo E)), (2, va_rf y2), (3, .long q.1), (5, .long q.2.1), (7, .long q.2.2.1), (9, va_rf q.2.2.2.1)]) hx hb dX0_bareOf_22 hl (by decide) rfl (fun ls hl => ?_)
    refine lv_aload_n hx hb dX0_bareOf_24 rfl (lv_at hl 1 rfl) ?_
    refine x_aload (r := q.2.2.2.1) hx hb dX0_bareOf_25 (lv_at hl 6 rfl) ?_
    refine lv_aload hx hb dX0_bareOf_27 (lv_at hl 0 rfl) ?_
    refine k_bind hf (fun e4 he4 hf => ?_)
    have hb_29 : XB nf sf e4 := hb9.back (by
      refine k_bind hf (fun v5 hv5 hf => ?_)
      refine k_bind hf (fun v6 hv6 hf => ?_)
      refine k_bind hf (fun v7 hv7 hf => ?_)
      refine k_bind hf (fun v8 hv8 hf => ?_)
      refine k_bind hf (fun v9 hv9 hf => ?_)
      refine k_bind hf (fun v10 hv10 hf => ?_)
      refine k_bind hf (fun v11 hv11 hf => ?_)
      refine k_bind hf (fun v12 hv12 hf => ?_)
      refine k_bind hf (fun a13 ha13 hf => ?_)
      refine k_bind hf (fun v14 hv14 hf => ?_)
      obtain rfl := Option.some.inj hf
      exact rl1.rf _)
    refine x_call (C := RX0) (As := [va_rf q.2.2.2.1, .ref n3.1]) (rest := []) S hR hS hn (hrec he4) (hrel he4) hb_29 wi_X0_bareOf (xrc S.2 hR (ci := 0) rfl (Or.inl ⟨rfl, rfl⟩)) rfl q2347 ⟨by omega, by omega⟩ rfl hl.1 rfl (Nat.le_of_ble_eq_true rfl) dX0_bareOf_29 (fun H locs cells slots hR hS hn => ?_)
    refine lv_lload_n hx hb dX0_bareOf_32 rfl (lv_at hl 3 rfl) ?_
    refine lv_aload hx hb dX0_bareOf_33 (lv_at hl 0 rfl) ?_
    refine lv_iconst (v := 1) hx hb dX0_bareOf_35 (by decide) ?_
    refine k_bind hf (fun v5 hv5 hf => ?_)
    refine x_dlJ S hR hv5 dX0_bareOf_36 ?_
    refine lv_aload hx hb dX0_bareOf_37 (lv_at hl 0 rfl) ?_
    refine lv_iconst (v := 2) hx hb dX0_bareOf_39 (by decide) ?_
    refine k_bind hf (fun v6 hv6 hf => ?_)
    refine x_dlJ S hR hv6 dX0_bareOf_40 ?_
    refine lv_ladd hx hb dX0_bareOf_41 ?_
    refine lv_lmul hx hb dX0_bareOf_42 ?_
    refine k_bind hf (fun v7 hv7 hf => ?_)
    refine m_nml hv7 ?_
    refine lv_lstore_n (lv' := [(3, .long v7), (10, .ref n3.1), (0, .ref (xo E)), (2, va_rf y2), (5, .long q.2.1), (7, .long q.2.2.1), (9, va_rf q.2.2.2.1)]) hx hb dX0_bareOf_43 rfl hl (by decide) rfl (fun ls hl => ?_)
    refine lv_lload hx hb dX0_bareOf_44 (lv_at hl 4 rfl) ?_
    refine lv_aload hx hb dX0_bareOf_46 (lv_at hl 1 rfl) ?_
    refine lv_iconst (v := 0) hx hb dX0_bareOf_48 (by decide) ?_
    refine k_bind hf (fun v8 hv8 hf => ?_)
    refine x_dlJ S hR hv8 dX0_bareOf_49 ?_
    refine lv_aload hx hb dX0_bareOf_50 (lv_at hl 1 rfl) ?_
    refine lv_iconst (v := 1) hx hb dX0_bareOf_52 (by decide) ?_
    refine k_bind hf (fun v9 hv9 hf => ?_)
    refine x_dlJ S hR hv9 dX0_bareOf_53 ?_
    refine lv_ladd hx hb dX0_bareOf_54 ?_
    refine lv_lmul hx hb dX0_bareOf_55 ?_
    refine k_bind hf (fun v10 hv10 hf => ?_)
    refine m_nml hv10 ?_
    refine lv_lstore (lv' := [(5, .long v10), (3, .long v7), (10, .ref n3.1), (0, .ref (xo E)), (2, va_rf y2), (7, .long q.2.2.1), (9, va_rf q.2.2.2.1)]) hx hb dX0_bareOf_56 hl (by decide) rfl (fun ls hl => ?_)
    refine lv_lload hx hb dX0_bareOf_58 (lv_at hl 5 rfl) ?_
    refine lv_aload hx hb dX0_bareOf_60 (lv_at hl 2 rfl) ?_
    refine lv_iconst (v := 1) hx hb dX0_bareOf_62 (by decide) ?_
    refine k_bind hf (fun v11 hv11 hf => ?_)
    refine x_dlJ S hR hv11 dX0_bareOf_63 ?_
    refine lv_lmul hx hb dX0_bareOf_64 ?_
    refine k_bind hf (fun v12 hv12 hf => ?_)
    refine m_nml hv12 ?_
    refine lv_lstore (lv' := [(7, .long v12), (5, .long v10), (3, .long v7), (10, .ref n3.1), (0, .ref (xo E)), (2, va_rf y2), (9, va_rf q.2.2.2.1)]) hx hb dX0_bareOf_65 hl (by decide) rfl (fun ls hl => ?_)
    refine x_aload (r := q.2.2.2.1) hx hb dX0_bareOf_67 (lv_at hl 6 rfl) ?_
    refine k_bind hf (fun a13 ha13 hf => ?_)
    rw [rf_some ha13]
    refine k_bind hf (fun v14 hv14 hf => ?_)
    refine x_getN S hR lk_X0_561 (xgR_g hv14) dX0_bareOf_69 ?_
    refine x_astore (r := v14) (lv' := [(9, va_rf v14), (7, .long v12), (5, .long v10), (3, .long v7), (10, .ref n3.1), (0, .ref (xo E)), (2, va_rf y2)]) hx hb dX0_bareOf_72 hl (by decide) rfl (fun ls hl => ?_)
    refine lv_goto (tgt := 14) hx hb dX0_bareOf_74 (by decide) ?_
    exact hK _ (Option.some.inj hf).symm _ _ _ _ _ hR hS hn (lv_sub (l' := [(0, .ref (xo E)), (2, va_rf y2), (3, .long v7), (5, .long v10), (7, .long v12), (9, va_rf v14)]) hl [5, 6, 3, 2, 1, 0] rfl)
set_option maxHeartbeats 4000000 in
set_option maxRecDepth 100000 in
theorem wLX0_bareOf_14 {l : Launch} {E : xG} {p : Program} {e : Env} {s : State} {m : MethodId} {args : Array Value} {below : List Frame} {meth : Method} {c : Code} {d : Nat} {rec : (Option Nat) → (Option Nat) → xS → Option (xS)} {Q : State → Prop} {n0 s0 nf sf : Nat} {y2 : Option Nat} {q : Int64 × Int64 × Int64 × (Option Nat) × xS} {res : Int64 × Int64 × Int64 × xS} (S : xSt E RX0 p m c cX0_bareOf 11 s args meth (Option.none : Option Jvm.ClassFile.FieldType)) (hrec : ∀ {x1 : Option Nat} {x2 : Option Nat} {σ : xS} {res : xS}, rec x1 x2 σ = some res → xMet l yX0_bareOf cX0_bareOf 11 (Option.none : Option Jvm.ClassFile.FieldType) (d + 0) (30 * (d) + 0) E [.ref (xo E), va_rf x1, va_rf x2] σ none res) (hrel : ∀ {x1 : Option Nat} {x2 : Option Nat} {σ : xS} {res : xS}, rec x1 x2 σ = some res → rl1 σ res) (h : lpw (LX0_bareOf_14 rec y2) q = some res) (hE77 : ∀ b, res = b → (∀ (H : Heap) (locs : List Loc) (cells slots : Nat) (ls : Array Slot), xR E b.2.2.2 H → va_S (xAA E) s.heap H locs → XN cells slots n0 s0 nf sf b.2.2.2 → lv_has ls 11 [(2, va_rf y2), (3, .long b.1), (5, .long b.2.1), (7, .long b.2.2.1)] → W p l e (xRm (d + 1 + 0) (30 * (d + 1) + 0) (nf - n0) (sf - s0)) s m args below meth c H locs cells slots Q (F0 m 77 ls []))) (hbL : XB nf sf ((fun b => b.2.2.2) res)) : (∀ (H : Heap) (locs : List Loc) (cells slots : Nat) (ls : Array Slot), xR E q.2.2.2.2 H → va_S (xAA E) s.heap H locs → XN cells slots n0 s0 nf sf q.2.2.2.2 → lv_has ls 11 [(0, .ref (xo E)), (2, va_rf y2), (3, .long q.1), (5, .long q.2.1), (7, .long q.2.2.1), (9, va_rf q.2.2.2.1)] → W p l e (xRm (d + 1 + 0) (30 * (d + 1) + 0) (nf - n0) (sf - s0)) s m args below meth c H locs cells slots Q (F0 m 14 ls [])) :=
  lpw_go2 _ (fun q => (∀ (H : Heap) (locs : List Loc) (cells slots : Nat) (ls : Array Slot), xR E q.2.2.2.2 H → va_S (xAA E) s.heap H locs → XN cells slots n0 s0 nf sf q.2.2.2.2 → lv_has ls 11 [(0, .ref (xo E)), (2, va_rf y2), (3, .long q.1), (5, .long q.2.1), (7, .long q.2.2.1), (9, va_rf q.2.2.2.1)] → W p l e (xRm (d + 1 + 0) (30 * (d + 1) + 0) (nf - n0) (sf - s0)) s m args below meth c H locs cells slots Q (F0 m 14 ls []))) (fun b0 => (∀ b, b0 = b → (∀ (H : Heap) (locs : List Loc) (cells slots : Nat) (ls : Array Slot), xR E b.2.2.2 H → va_S (xAA E) s.heap H locs → XN cells slots n0 s0 nf sf b.2.2.2 → lv_has ls 11 [(2, va_rf y2), (3, .long b.1), (5, .long b.2.1), (7, .long b.2.2.1)] → W p l e (xRm (d + 1 + 0) (30 * (d + 1) + 0) (nf - n0) (sf - s0)) s m args below meth c H locs cells slots Q (F0 m 77 ls []))) ∧ XB nf sf ((fun b => b.2.2.2) b0)) (fun q x b0 hf hz hEb hK hX => wbLX0_bareOf_14 S hrec hrel hf hK (fun b eb => (hX _ eb).1 b rfl) (by
      cases x with
      | inl q1 => exact XB.back hEb.2 (rLX0_bareOf_14 hrel hz)
      | inr b1 => obtain rfl := Option.some.inj hz; exact hEb.2)) q res h ⟨hE77, hbL⟩
set_option maxHeartbeats 4000000 in
set_option maxRecDepth 100000 in
theorem wBX0_bareOf {l : Launch} {E : xG} {d : Nat} {rec : (Option Nat) → (Option Nat) → xS → Option (xS)} {x1 : Option Nat} {x2 : Option Nat} {σ : xS} {res : xS} (hrec : ∀ {x1 : Option Nat} {x2 : Option Nat} {σ : xS} {res : xS}, rec x1 x2 σ = some res → xMet l yX0_bareOf cX0_bareOf 11 (Option.none : Option Jvm.ClassFile.FieldType) (d + 0) (30 * (d) + 0) E [.ref (xo E), va_rf x1, va_rf x2] σ none res) (hrel : ∀ {x1 : Option Nat} {x2 : Option Nat} {σ : xS} {res : xS}, rec x1 x2 σ = some res → rl1 σ res) (hf : BX0_bareOf rec x1 x2 σ = some res) : xMet l yX0_bareOf cX0_bareOf 11 (Option.none : Option Jvm.ClassFile.FieldType) (d + 1 + 0) (30 * (d + 1) + 0) E [.ref (xo E), va_rf x1, va_rf x2] σ none res := by
  replace hf : ((x1).bind (fun a1 => (xgR σ [(19, 2)] a1).bind (fun v2 => (lpw (LX0_bareOf_14 rec x2) ((1 : Int64), (1 : Int64), (1 : Int64), v2, σ)).bind (fun b15 => (x2).bind (fun a16 => (xdsJ b15.2.2.2 a16 (0 : Int32) b15.1).bind (fun σ17 => (x2).bind (fun a18 => (xdsJ σ17 a18 (1 : Int32) (b15.2.1 - b15.2.2.1)).bind (fun σ19 => (x2).bind (fun a20 => (xdsJ σ19 a20 (2 : Int32) b15.2.2.1).bind (fun σ21 => some σ21)))))))))) = some res := hf
  refine x_start (by decide) (Nat.le_of_ble_eq_true rfl) ?_
  intro p e s m args below meth c S hnm hR hS ls hl
  obtain ⟨hx, hb, hml, hown, hts⟩ := S.1.1
  have hl : lv_has ls 11 [(0, .ref (xo E)), (1, va_rf x1), (2, va_rf x2)] := hl
  have hn : XN 0 0 (xnx σ) (xns σ) (xnx res) (xns res) σ := ⟨Nat.zero_add _, Nat.zero_add _, (rB_X0_bareOf (x1 := x1) (x2 := x2) (σ := σ) hrel hf).1, (rB_X0_bareOf (x1 := x1) (x2 := x2) (σ := σ) hrel hf).2⟩
  have hb9 : XB (xnx res) (xns res) res := ⟨Nat.le_refl _, Nat.le_refl _⟩
  refine lv_lconst (v := 1) hx hb dX0_bareOf_0 (by decide) ?_
  refine lv_lstore_n (lv' := [(3, .long (1 : Int64)), (0, .ref (xo E)), (1, va_rf x1), (2, va_rf x2)]) hx hb dX0_bareOf_1 rfl hl (by decide) rfl (fun ls hl => ?_)
  refine lv_lconst (v := 1) hx hb dX0_bareOf_2 (by decide) ?_
  refine lv_lstore (lv' := [(5, .long (1 : Int64)), (3, .long (1 : Int64)), (0, .ref (xo E)), (1, va_rf x1), (2, va_rf x2)]) hx hb dX0_bareOf_3 hl (by decide) rfl (fun ls hl => ?_)
  refine lv_lconst (v := 1) hx hb dX0_bareOf_5 (by decide) ?_
  refine lv_lstore (lv' := [(7, .long (1 : Int64)), (5, .long (1 : Int64)), (3, .long (1 : Int64)), (0, .ref (xo E)), (1, va_rf x1), (2, va_rf x2)]) hx hb dX0_bareOf_6 hl (by decide) rfl (fun ls hl => ?_)
  refine x_aload_n (r := x1) hx hb dX0_bareOf_8 rfl (lv_at hl 4 rfl) ?_
  refine k_bind hf (fun a1 ha1 hf => ?_)
  rw [rf_some ha1]
  refine k_bind hf (fun v2 hv2 hf => ?_)
  refine x_getN S hR lk_X0_545 (xgR_g hv2) dX0_bareOf_9 ?_
  refine x_astore (r := v2) (lv' := [(9, va_rf v2), (7, .long (1 : Int64)), (5, .long (1 : Int64)), (3, .long (1 : Int64)), (0, .ref (xo E)), (1, va_rf x1), (2, va_rf x2)]) hx hb dX0_bareOf_12 hl (by decide) rfl (fun ls hl => ?_)
  refine k_bind hf (fun b15 hb15 hf => ?_)
  have hbL : XB (xnx res) (xns res) ((fun b => b.2.2.2) b15) := hb9.back (by
    refine k_bind hf (fun a16 ha16 hf => ?_)
    refine k_bind hf (fun σ17 hσ17 hf => ?_)
    refine rl0.tr1 (r0_dsJ hσ17) ?_
    refine k_bind hf (fun a18 ha18 hf => ?_)
    refine k_bind hf (fun σ19 hσ19 hf => ?_)
    refine rl0.tr1 (r0_dsJ hσ19) ?_
    refine k_bind hf (fun a20 ha20 hf => ?_)
    refine k_bind hf (fun σ21 hσ21 hf => ?_)
    refine rl0.tr1 (r0_dsJ hσ21) ?_
    obtain rfl := Option.some.inj hf
    exact rl1.rf _)
  refine wLX0_bareOf_14 S hrec hrel hb15 ?_ hbL _ _ _ _ _ hR hS hn (lv_sub (l' := [(0, .ref (xo E)), (2, va_rf x2), (3, .long (1 : Int64)), (5, .long (1 : Int64)), (7, .long (1 : Int64)), (9, va_rf v2)]) hl [4, 6, 3, 2, 1, 0] rfl)
  · intro b eb; subst eb; intro H locs cells slots ls hR hS hn hl
    refine x_aload_n (r := x2) hx hb dX0_bareOf_77 rfl (lv_at hl 0 rfl) ?_
    refine lv_iconst (v := 0) hx hb dX0_bareOf_78 (by decide) ?_
    refine lv_lload_n hx hb dX0_bareOf_79 rfl (lv_at hl 1 rfl) ?_
    refine k_bind hf (fun a16 ha16 hf => ?_)
    rw [rf_some ha16]
    refine k_bind hf (fun σ17 hσ17 hf => ?_)
    refine x_dsJ S hR hS hσ17 dX0_bareOf_80 (fun H locs hR hS => ?_)
    replace hn := hn.to (r0_dsJ hσ17)
    refine x_aload_n (r := x2) hx hb dX0_bareOf_81 rfl (lv_at hl 0 rfl) ?_
    refine lv_iconst (v := 1) hx hb dX0_bareOf_82 (by decide) ?_
    refine lv_lload hx hb dX0_bareOf_83 (lv_at hl 2 rfl) ?_
    refine lv_lload hx hb dX0_bareOf_85 (lv_at hl 3 rfl) ?_
    refine lv_lsub hx hb dX0_bareOf_87 ?_
    refine k_bind hf (fun a18 ha18 hf => ?_)
    rw [rf_some ha18]
    refine k_bind hf (fun σ19 hσ19 hf => ?_)
    refine x_dsJ S hR hS hσ19 dX0_bareOf_88 (fun H locs hR hS => ?_)
    replace hn := hn.to (r0_dsJ hσ19)
    refine x_aload_n (r := x2) hx hb dX0_bareOf_89 rfl (lv_at hl 0 rfl) ?_
    refine lv_iconst (v := 2) hx hb dX0_bareOf_90 (by decide) ?_
    refine lv_lload hx hb dX0_bareOf_91 (lv_at hl 3 rfl) ?_
    refine k_bind hf (fun a20 ha20 hf => ?_)
    rw [rf_some ha20]
    refine k_bind hf (fun σ21 hσ21 hf => ?_)
    refine x_dsJ S hR hS hσ21 dX0_bareOf_93 (fun H locs hR hS => ?_)
    replace hn := hn.to (r0_dsJ hσ21)
    obtain rfl := Option.some.inj hf
    exact x_vret S hR hS hn dX0_bareOf_94
set_option maxHeartbeats 4000000 in
set_option maxRecDepth 100000 in
theorem met_X0_bareOf {l : Launch} {E : xG} : ∀ {d : Nat} {x1 : Option Nat} {x2 : Option Nat} {σ : xS} {res : xS}, fX0_bareOf d x1 x2 σ = some res → xMet l yX0_bareOf cX0_bareOf 11 (Option.none : Option Jvm.ClassFile.FieldType) (d + 0) (30 * (d) + 0) E [.ref (xo E), va_rf x1, va_rf x2] σ none res := by
  intro d
  induction d with
  | zero => intro  x1 x2 σ res hf; cases hf
  | succ d ih => intro  x1 x2 σ res hf; exact wBX0_bareOf (fun h => ih h) (fun h => r1_X0_bareOf h) hf
