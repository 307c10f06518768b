/-! the component, walked: X0_isSheet X0_length X0_number X0_isKnot X0_packs X0_search X0_begins X0_caught X0_lambda_caught_4 X0_takes X0_refusedMany -/

noncomputable def fX0_isSheet (x0 : Int32) : Int32 :=
  ((fX0_in x0 (0 : Int32) (3 : Int32)) &&& 1)
theorem wi_X0_isSheet : wInfS yX0_isSheet cX0_isSheet 1 (Option.some Jvm.ClassFile.FieldType.boolean) 1 := ⟨q1569, q106, q1570, (by decide +kernel), (by decide +kernel), (by decide +kernel)⟩
set_option maxHeartbeats 4000000 in
set_option maxRecDepth 100000 in
theorem met_X0_isSheet {l : Launch} {x0 : Int32} {res : Int32} (hf : fX0_isSheet x0 = res) : sMet l yX0_isSheet cX0_isSheet 1 (Option.some Jvm.ClassFile.FieldType.boolean) (mRm 1 22) [.int x0] (some (.int res)) := by
  replace hf : ((fX0_in x0 (0 : Int32) (3 : Int32)) &&& 1) = res := hf
  refine s_start (by decide) (Nat.le_of_ble_eq_true rfl) ?_
  intro p e s m args below meth c S ls hl
  obtain ⟨hx, hb, hml, hown, hts⟩ := S.1
  have hl : lv_has ls 1 [(0, .int x0)] := hl
  refine lv_iload_n hx hb dX0_isSheet_0 rfl (lv_at hl 0 rfl) ?_
  refine lv_iconst (v := 0) hx hb dX0_isSheet_1 (by decide) ?_
  refine lv_iconst (v := 3) hx hb dX0_isSheet_2 (by decide) ?_
  refine s_call (As := [.int x0, .int (0 : Int32), .int (3 : Int32)]) (rest := []) S.1 (met_X0_in rfl) wi_X0_in q479 ⟨rfl, rfl⟩ ⟨Nat.le_of_ble_eq_true rfl, Nat.le_of_ble_eq_true rfl⟩ rfl hl.1 rfl (Nat.le_of_ble_eq_true rfl) dX0_isSheet_3 ⟨Nat.zero_le _, Nat.zero_le _⟩ ?_
  subst hf
  exact s_iret S rfl dX0_isSheet_6


noncomputable def fX0_length (x0 : Option Nat) (σ : xS) : Option (Int32) :=
  none
theorem wi_X0_length : wInfS yX0_length cX0_length 1 (Option.some Jvm.ClassFile.FieldType.int) 1 := ⟨q1572, q106, q1573, (by decide +kernel), (by decide +kernel), (by decide +kernel)⟩
set_option maxHeartbeats 4000000 in
set_option maxRecDepth 100000 in
theorem met_X0_length {l : Launch} {E : xG} {x0 : Option Nat} {σ : xS} {res : Int32} (hf : fX0_length x0 σ = some res) : xMet l yX0_length cX0_length 1 (Option.some Jvm.ClassFile.FieldType.int) 0 0 E [va_rf x0] σ (some (.int res)) σ := by
  replace hf : none = some res := hf
  refine x_start (by decide) (Nat.le_of_ble_eq_true rfl) ?_
  intro p e s m args below meth c S hnm hR hS ls hl
  obtain ⟨hx, hb, hml, hown, hts⟩ := S.1.1
  have hl : lv_has ls 1 [(0, va_rf x0)] := hl
  have hn : XN 0 0 (xnx σ) (xns σ) (xnx σ) (xns σ) σ := ⟨Nat.zero_add _, Nat.zero_add _, (rl1.rf σ).1, (rl1.rf σ).2⟩
  refine x_aload_n (r := x0) hx hb dX0_length_0 rfl (lv_at hl 0 rfl) ?_
  cases hf


noncomputable def fX0_number (x0 : Option Nat) (x1 : Int32) (σ : xS) : Option (Int32) :=
  none
theorem wi_X0_number : wInfS yX0_number cX0_number 2 (Option.some Jvm.ClassFile.FieldType.int) 2 := ⟨q1578, q106, q1579, (by decide +kernel), (by decide +kernel), (by decide +kernel)⟩
set_option maxHeartbeats 4000000 in
set_option maxRecDepth 100000 in
theorem met_X0_number {l : Launch} {E : xG} {x0 : Option Nat} {x1 : Int32} {σ : xS} {res : Int32} (hf : fX0_number x0 x1 σ = some res) : xMet l yX0_number cX0_number 2 (Option.some Jvm.ClassFile.FieldType.int) 0 0 E [va_rf x0, .int x1] σ (some (.int res)) σ := by
  replace hf : none = some res := hf
  refine x_start (by decide) (Nat.le_of_ble_eq_true rfl) ?_
  intro p e s m args below meth c S hnm hR hS ls hl
  obtain ⟨hx, hb, hml, hown, hts⟩ := S.1.1
  have hl : lv_has ls 2 [(0, va_rf x0), (1, .int x1)] := hl
  have hn : XN 0 0 (xnx σ) (xns σ) (xnx σ) (xns σ) σ := ⟨Nat.zero_add _, Nat.zero_add _, (rl1.rf σ).1, (rl1.rf σ).2⟩
  refine x_aload_n (r := x0) hx hb dX0_number_0 rfl (lv_at hl 0 rfl) ?_
  cases hf


noncomputable def LX0_isKnot_12 (y1 : Int32) (σ : xS) (q : Int32 × Int32) : Option ((Int32 × Int32) ⊕ (Int32)) :=
  if (xN σ (0 : Fin 3) 2) ≤ q.2 then some (Sum.inr q.1) else if q.1 = (0 : Int32) then some (Sum.inr q.1) else if (fX0_has y1 q.2) = (0 : Int32) then some (Sum.inl ((1 : Int32), q.2 + (1 : Int32))) else (xla 1 σ 11 q.2).bind (fun v3 => if ((y1 &&& ((ish (1 : Int32) q.2) ^^^ (-1 : Int32))) &&& (v3 ^^^ (-1 : Int32))) = (0 : Int32) then some (Sum.inl ((1 : Int32), q.2 + (1 : Int32))) else some (Sum.inl ((0 : Int32), q.2 + (1 : Int32))))
noncomputable def fX0_isKnot (x1 : Int32) (σ : xS) : Option (Int32) :=
  (fX0_ones x1).bind (fun v1 => (some (fX0_in v1 (2 : Int32) (3 : Int32))).bind (fun v2 => (lpw (LX0_isKnot_12 x1 σ) (v2, (0 : Int32))).bind (fun b4 => some (b4 &&& 1))))
theorem wi_X0_isKnot : wInfV yX0_isKnot cX0_isKnot 4 (Option.some Jvm.ClassFile.FieldType.boolean) 1 := ⟨q1582, qs27, q106, q1583, (by decide +kernel), (by decide +kernel), (by decide +kernel)⟩
set_option maxHeartbeats 4000000 in
set_option maxRecDepth 100000 in
theorem wbLX0_isKnot_12 {l : Launch} {E : xG} {p : Program} {e : Env} {s : State} {m : MethodId} {args : Array Value} {below : List Frame} {meth : Method} {c : Code} {Q : State → Prop} {n0 s0 nf sf : Nat} {y1 : Int32} {σ : xS} {q : Int32 × Int32} {res : (Int32 × Int32) ⊕ (Int32)} (S : xSt E RX0 p m c cX0_isKnot 4 s args meth (Option.some Jvm.ClassFile.FieldType.boolean)) (hf : LX0_isKnot_12 y1 σ q = some res) (hK : ∀ q, res = Sum.inl q → (∀ (H : Heap) (locs : List Loc) (cells slots : Nat) (ls : Array Slot), xR E σ H → va_S (xAA E) s.heap H locs → XN cells slots n0 s0 nf sf σ → lv_has ls 4 [(0, .ref (xo E)), (1, .int y1), (2, .int q.1), (3, .int q.2)] → W p l e (xRm 2 40 (nf - n0) (sf - s0)) s m args below meth c H locs cells slots Q (F0 m 12 ls []))) (hE69 : ∀ b, res = Sum.inr b → (∀ (H : Heap) (locs : List Loc) (cells slots : Nat) (ls : Array Slot), xR E σ H → va_S (xAA E) s.heap H locs → XN cells slots n0 s0 nf sf σ → lv_has ls 4 [(2, .int b)] → W p l e (xRm 2 40 (nf - n0) (sf - s0)) s m args below meth c H locs cells slots Q (F0 m 69 ls []))) : (∀ (H : Heap) (locs : List Loc) (cells slots : Nat) (ls : Array Slot), xR E σ H → va_S (xAA E) s.heap H locs → XN cells slots n0 s0 nf sf σ → lv_has ls 4 [(0, .ref (xo E)), (1, .int y1), (2, .int q.1), (3, .int q.2)] → W p l e (xRm 2 40 (nf - n0) (sf - s0)) s m args below meth c H locs cells slots Q (F0 m 12 ls [])) := by
  replace hf : (if (xN σ (0 : Fin 3) 2) ≤ q.2 then some (Sum.inr q.1) else if q.1 = (0 : Int32) then some (Sum.inr q.1) else if (fX0_has y1 q.2) = (0 : Int32) then some (Sum.inl ((1 : Int32), q.2 + (1 : Int32))) else (xla 1 σ 11 q.2).bind (fun v3 => if ((y1 &&& ((ish (1 : Int32) q.2) ^^^ (-1 : Int32))) &&& (v3 ^^^ (-1 : Int32))) = (0 : Int32) then some (Sum.inl ((1 : Int32), q.2 + (1 : Int32))) else some (Sum.inl ((0 : Int32), q.2 + (1 : Int32))))) = some res := hf
  obtain ⟨hx, hb, hml, hown, hts⟩ := S.1.1
  intro H locs cells slots ls hR hS hn hl
  refine lv_iload_n hx hb dX0_isKnot_12 rfl (lv_at hl 3 rfl) ?_
  refine lv_aload_n hx hb dX0_isKnot_13 rfl (lv_at hl 0 rfl) ?_
  refine x_oget (k := 0) (v := .ref (xnt E (0 : Fin 3))) S hR (lk_X0_10 _ List.mem_cons_self) rfl dX0_isKnot_14 ?_
  refine x_ngetN (j := (0 : Fin 3)) (k := 2) (v := .int (xN σ (0 : Fin 3) 2)) S hR (lk_X0_115 _ List.mem_cons_self) rfl dX0_isKnot_17 ?_
  refine lv_icmp_ge (tgt := 69) hx hb dX0_isKnot_20 (by decide) (fun c_20 => ?_) (fun c_20 => ?_)
  · replace hf := o_t hf c_20
    exact hE69 _ (Option.some.inj hf).symm _ _ _ _ _ hR hS hn (lv_sub (l' := [(2, .int q.1)]) hl [2] rfl)
  · replace hf := o_f hf c_20
    refine lv_iload_n hx hb dX0_isKnot_23 rfl (lv_at hl 2 rfl) ?_
    refine lv_if_eq (tgt := 69) hx hb dX0_isKnot_24 (by decide) (fun c_24 => ?_) (fun c_24 => ?_)
    · replace hf := o_t hf c_24
      exact hE69 _ (Option.some.inj hf).symm _ _ _ _ _ hR hS hn (lv_sub (l' := [(2, .int q.1)]) hl [2] rfl)
    · replace hf := o_f hf c_24
      refine lv_iload_n hx hb dX0_isKnot_27 rfl (lv_at hl 1 rfl) ?_
      refine lv_iload_n hx hb dX0_isKnot_28 rfl (lv_at hl 3 rfl) ?_
      refine s_call (As := [.int y1, .int q.2]) (rest := []) S.1.1 (met_X0_has rfl) wi_X0_has q210 ⟨rfl, rfl⟩ ⟨Nat.le_of_ble_eq_true rfl, Nat.le_of_ble_eq_true rfl⟩ rfl hl.1 rfl (Nat.le_of_ble_eq_true rfl) dX0_isKnot_29 hn.cs ?_
      refine lv_if_eq (tgt := 57) hx hb dX0_isKnot_32 (by decide) (fun c_32 => ?_) (fun c_32 => ?_)
      · replace hf := o_t hf c_32
        refine lv_iconst (v := 1) hx hb dX0_isKnot_57 (by decide) ?_
        refine lv_goto (tgt := 62) hx hb dX0_isKnot_58 (by decide) ?_
        refine lv_istore_n (lv' := [(2, .int (1 : Int32)), (0, .ref (xo E)), (1, .int y1), (3, .int q.2)]) hx hb dX0_isKnot_62 rfl hl (by decide) rfl (fun ls hl => ?_)
        refine lv_iinc (lv' := [(3, .int (q.2 + (1 : Int32))), (2, .int (1 : Int32)), (0, .ref (xo E)), (1, .int y1)]) hx hb dX0_isKnot_63 hl (k := 3) rfl (m_inc (by decide)) (by decide) rfl (fun ls hl => ?_)
        refine lv_goto (tgt := 12) hx hb dX0_isKnot_66 (by decide) ?_
        exact hK _ (Option.some.inj hf).symm _ _ _ _ _ hR hS hn (lv_sub (l' := [(0, .ref (xo E)), (1, .int y1), (2, .int (1 : Int32)), (3, .int (q.2 + (1 : Int32)))]) hl [2, 3, 1, 0] rfl)
      · replace hf := o_f hf c_32
        refine lv_iload_n hx hb dX0_isKnot_35 rfl (lv_at hl 1 rfl) ?_
        refine lv_iconst (v := 1) hx hb dX0_isKnot_36 (by decide) ?_
        refine lv_iload_n hx hb dX0_isKnot_37 rfl (lv_at hl 3 rfl) ?_
        refine lv_ishl hx hb dX0_isKnot_38 ?_
        refine lv_iconst (v := -1) hx hb dX0_isKnot_39 (by decide) ?_
        refine lv_ixor hx hb dX0_isKnot_40 ?_
        refine lv_iand hx hb dX0_isKnot_41 ?_
        refine lv_aload_n hx hb dX0_isKnot_42 rfl (lv_at hl 0 rfl) ?_
        refine x_oget (k := 0) (v := .ref (xnt E (0 : Fin 3))) S hR (lk_X0_10 _ List.mem_cons_self) rfl dX0_isKnot_43 ?_
        refine x_ngetN (j := (0 : Fin 3)) (k := 1) (v := .ref (xar E 11)) S hR (lk_X0_152 _ List.mem_cons_self) rfl dX0_isKnot_46 ?_
        refine lv_iload_n hx hb dX0_isKnot_49 rfl (lv_at hl 3 rfl) ?_
        refine k_bind hf (fun v3 hv3 hf => ?_)
        refine x_sl1 S hR hv3 dX0_isKnot_50 ?_
        refine lv_iconst (v := -1) hx hb dX0_isKnot_51 (by decide) ?_
        refine lv_ixor hx hb dX0_isKnot_52 ?_
        refine lv_iand hx hb dX0_isKnot_53 ?_
        refine lv_if_ne (tgt := 61) hx hb dX0_isKnot_54 (by decide) (fun c_54 => ?_) (fun c_54 => ?_)
        · replace hf := o_f hf c_54
          refine lv_iconst (v := 0) hx hb dX0_isKnot_61 (by decide) ?_
          refine lv_istore_n (lv' := [(2, .int (0 : Int32)), (0, .ref (xo E)), (1, .int y1), (3, .int q.2)]) hx hb dX0_isKnot_62 rfl hl (by decide) rfl (fun ls hl => ?_)
          refine lv_iinc (lv' := [(3, .int (q.2 + (1 : Int32))), (2, .int (0 : Int32)), (0, .ref (xo E)), (1, .int y1)]) hx hb dX0_isKnot_63 hl (k := 3) rfl (m_inc (by decide)) (by decide) rfl (fun ls hl => ?_)
          refine lv_goto (tgt := 12) hx hb dX0_isKnot_66 (by decide) ?_
          exact hK _ (Option.some.inj hf).symm _ _ _ _ _ hR hS hn (lv_sub (l' := [(0, .ref (xo E)), (1, .int y1), (2, .int (0 : Int32)), (3, .int (q.2 + (1 : Int32)))]) hl [2, 3, 1, 0] rfl)
        · replace hf := o_t hf c_54
          refine lv_iconst (v := 1) hx hb dX0_isKnot_57 (by decide) ?_
          refine lv_goto (tgt := 62) hx hb dX0_isKnot_58 (by decide) ?_
          refine lv_istore_n (lv' := [(2, .int (1 : Int32)), (0, .ref (xo E)), (1, .int y1), (3, .int q.2)]) hx hb dX0_isKnot_62 rfl hl (by decide) rfl (fun ls hl => ?_)
          refine lv_iinc (lv' := [(3, .int (q.2 + (1 : Int32))), (2, .int (1 : Int32)), (0, .ref (xo E)), (1, .int y1)]) hx hb dX0_isKnot_63 hl (k := 3) rfl (m_inc (by decide)) (by decide) rfl (fun ls hl => ?_)
          refine lv_goto (tgt := 12) hx hb dX0_isKnot_66 (by decide) ?_
          exact hK _ (Option.some.inj hf).symm _ _ _ _ _ hR hS hn (lv_sub (l' := [(0, .ref (xo E)), (1, .int y1), (2, .int (1 : Int32)), (3, .int (q.2 + (1 : Int32)))]) hl [2, 3, 1, 0] rfl)
set_option maxHeartbeats 4000000 in
set_option maxRecDepth 100000 in
theorem wLX0_isKnot_12 {l : Launch} {E : xG} {p : Program} {e : Env} {s : State} {m : MethodId} {args : Array Value} {below : List Frame} {meth : Method} {c : Code} {Q : State → Prop} {n0 s0 nf sf : Nat} {y1 : Int32} {σ : xS} {q : Int32 × Int32} {res : Int32} (S : xSt E RX0 p m c cX0_isKnot 4 s args meth (Option.some Jvm.ClassFile.FieldType.boolean)) (h : lpw (LX0_isKnot_12 y1 σ) q = some res) (hE69 : ∀ b, res = b → (∀ (H : Heap) (locs : List Loc) (cells slots : Nat) (ls : Array Slot), xR E σ H → va_S (xAA E) s.heap H locs → XN cells slots n0 s0 nf sf σ → lv_has ls 4 [(2, .int b)] → W p l e (xRm 2 40 (nf - n0) (sf - s0)) s m args below meth c H locs cells slots Q (F0 m 69 ls []))) : (∀ (H : Heap) (locs : List Loc) (cells slots : Nat) (ls : Array Slot), xR E σ H → va_S (xAA E) s.heap H locs → XN cells slots n0 s0 nf sf σ → lv_has ls 4 [(0, .ref (xo E)), (1, .int y1), (2, .int q.1), (3, .int q.2)] → W p l e (xRm 2 40 (nf - n0) (sf - s0)) s m args below meth c H locs cells slots Q (F0 m 12 ls [])) :=
  lpw_go _ (fun q => (∀ (H : Heap) (locs : List Loc) (cells slots : Nat) (ls : Array Slot), xR E σ H → va_S (xAA E) s.heap H locs → XN cells slots n0 s0 nf sf σ → lv_has ls 4 [(0, .ref (xo E)), (1, .int y1), (2, .int q.1), (3, .int q.2)] → W p l e (xRm 2 40 (nf - n0) (sf - s0)) s m args below meth c H locs cells slots Q (F0 m 12 ls []))) (fun b0 => (∀ b, b0 = b → (∀ (H : Heap) (locs : List Loc) (cells slots : Nat) (ls : Array Slot), xR E σ H → va_S (xAA E) s.heap H locs → XN cells slots n0 s0 nf sf σ → lv_has ls 4 [(2, .int b)] → W p l e (xRm 2 40 (nf - n0) (sf - s0)) s m args below meth c H locs cells slots Q (F0 m 69 ls [])))) (fun q x hf hK hX => wbLX0_isKnot_12 S hf hK (fun b eb => (hX _ eb) b rfl)) q res h hE69
set_option maxHeartbeats 4000000 in
set_option maxRecDepth 100000 in
theorem met_X0_isKnot {l : Launch} {E : xG} {x1 : Int32} {σ : xS} {res : Int32} (hf : fX0_isKnot x1 σ = some res) : xMet l yX0_isKnot cX0_isKnot 4 (Option.some Jvm.ClassFile.FieldType.boolean) 2 40 E [.ref (xo E), .int x1] σ (some (.int res)) σ := by
  replace hf : ((fX0_ones x1).bind (fun v1 => (some (fX0_in v1 (2 : Int32) (3 : Int32))).bind (fun v2 => (lpw (LX0_isKnot_12 x1 σ) (v2, (0 : Int32))).bind (fun b4 => some (b4 &&& 1))))) = some res := hf
  refine x_start (by decide) (Nat.le_of_ble_eq_true rfl) ?_
  intro p e s m args below meth c S hnm hR hS ls hl
  obtain ⟨hx, hb, hml, hown, hts⟩ := S.1.1
  have hl : lv_has ls 4 [(0, .ref (xo E)), (1, .int x1)] := hl
  have hn : XN 0 0 (xnx σ) (xns σ) (xnx σ) (xns σ) σ := ⟨Nat.zero_add _, Nat.zero_add _, (rl1.rf σ).1, (rl1.rf σ).2⟩
  refine lv_iload_n hx hb dX0_isKnot_0 rfl (lv_at hl 1 rfl) ?_
  refine k_bind hf (fun v1 hv1 hf => ?_)
  refine s_call (As := [.int x1]) (rest := []) S.1.1 (met_X0_ones hv1) wi_X0_ones q637 ⟨rfl, rfl⟩ ⟨Nat.le_of_ble_eq_true rfl, Nat.le_of_ble_eq_true rfl⟩ rfl hl.1 rfl (Nat.le_of_ble_eq_true rfl) dX0_isKnot_1 hn.cs ?_
  refine lv_iconst (v := 2) hx hb dX0_isKnot_4 (by decide) ?_
  refine lv_iconst (v := 3) hx hb dX0_isKnot_5 (by decide) ?_
  refine s_call (As := [.int v1, .int (2 : Int32), .int (3 : Int32)]) (rest := []) S.1.1 (met_X0_in rfl) wi_X0_in q479 ⟨rfl, rfl⟩ ⟨Nat.le_of_ble_eq_true rfl, Nat.le_of_ble_eq_true rfl⟩ rfl hl.1 rfl (Nat.le_of_ble_eq_true rfl) dX0_isKnot_6 hn.cs ?_
  refine k_bind hf (fun v2 hv2 hf => ?_)
  refine m_nmi hv2 ?_
  refine lv_istore_n (lv' := [(2, .int v2), (0, .ref (xo E)), (1, .int x1)]) hx hb dX0_isKnot_9 rfl hl (by decide) rfl (fun ls hl => ?_)
  refine lv_iconst (v := 0) hx hb dX0_isKnot_10 (by decide) ?_
  refine lv_istore_n (lv' := [(3, .int (0 : Int32)), (2, .int v2), (0, .ref (xo E)), (1, .int x1)]) hx hb dX0_isKnot_11 rfl hl (by decide) rfl (fun ls hl => ?_)
  refine k_bind hf (fun b4 hb4 hf => ?_)
  refine wLX0_isKnot_12 S hb4 ?_ _ _ _ _ _ hR hS hn (lv_sub (l' := [(0, .ref (xo E)), (1, .int x1), (2, .int v2), (3, .int (0 : Int32))]) hl [2, 3, 1, 0] rfl)
  · intro b eb; subst eb; intro H locs cells slots ls hR hS hn hl
    refine lv_iload_n hx hb dX0_isKnot_69 rfl (lv_at hl 0 rfl) ?_
    obtain rfl := Option.some.inj hf
    exact x_iret S hR hS hn rfl dX0_isKnot_70

theorem lk_X0_75 : ∀ q ∈ ([(0, 30)] : List (Nat × Nat)), wLk RX0 75 q.1 q.2 := List.forall_mem_cons.mpr ⟨⟨RX0, TX0, 32, "LinesTouched", rfl, by decide, in_X0, q408, Or.inl rfl⟩, fun _ h => absurd h List.not_mem_nil⟩
theorem lk_X0_384 : ∀ q ∈ ([(3, 0)] : List (Nat × Nat)), wLkN RX0 384 q.1 q.2 := List.forall_mem_cons.mpr ⟨⟨RX3, TX3, 1, "LinesTouched", rfl, by decide, in_X3, q374⟩, fun _ h => absurd h List.not_mem_nil⟩
noncomputable def LX0_packs_35 (y2 : Option Nat) (σ : xS) (q : Int32 × Int32 × Int32) : Option ((Int32 × Int32 × Int32) ⊕ ((Int32) ⊕ (Int32))) :=
  (fX0_length y2 σ).bind (fun v4 => if v4 ≤ q.2.2 then some (Sum.inr (Sum.inr q.2.1)) else (fX0_number y2 q.2.2 σ).bind (fun v5 => (fX0_areSet v5 σ).bind (fun v6 => if v6 = (0 : Int32) then some (Sum.inr (Sum.inl q.2.2)) else if (v5 &&& q.1) = (0 : Int32) then (fX0_isKnot v5 σ).bind (fun v7 => if v7 = (0 : Int32) then some (Sum.inr (Sum.inl q.2.2)) else (some (q.1 ||| v5)).bind (fun v8 => (fX0_ones v5).bind (fun v9 => (some (q.2.1 + (v9 - (1 : Int32)))).bind (fun v10 => some (Sum.inl (v8, v10, q.2.2 + (1 : Int32))))))) else some (Sum.inr (Sum.inl q.2.2)))))
noncomputable def fX0_packs (x1 : Int32) (σ : xS) : Option (Int32) :=
  if (fX0_isSheet x1) = (0 : Int32) then some (-2 : Int32) else (xlr σ 8 x1).bind (fun v1 => (v1).bind (fun a2 => (xgR σ [(3, 0)] a2).bind (fun v3 => if v3 = none then some (-11 : Int32) else (lpw (LX0_packs_35 v3 σ) ((0 : Int32), (0 : Int32), (0 : Int32))).bind ((fun e => Sum.elim (fun b12 => some ((-100 : Int32) - b12)) (fun b13 => some b13) e)))))
theorem wi_X0_packs : wInfV yX0_packs cX0_packs 7 (Option.some Jvm.ClassFile.FieldType.int) 1 := ⟨q1565, q1566, q106, q1567, (by decide +kernel), (by decide +kernel), (by decide +kernel)⟩
set_option maxHeartbeats 4000000 in
set_option maxRecDepth 100000 in
theorem wbLX0_packs_35 {l : Launch} {E : xG} {p : Program} {e : Env} {s : State} {m : MethodId} {args : Array Value} {below : List Frame} {meth : Method} {c : Code} {Q : State → Prop} {n0 s0 nf sf : Nat} {y2 : Option Nat} {σ : xS} {q : Int32 × Int32 × Int32} {res : (Int32 × Int32 × Int32) ⊕ ((Int32) ⊕ (Int32))} (S : xSt E RX0 p m c cX0_packs 7 s args meth (Option.some Jvm.ClassFile.FieldType.int)) (hf : LX0_packs_35 y2 σ q = some res) (hK : ∀ q, res = Sum.inl q → (∀ (H : Heap) (locs : List Loc) (cells slots : Nat) (ls : Array Slot), xR E σ H → va_S (xAA E) s.heap H locs → XN cells slots n0 s0 nf sf σ → lv_has ls 7 [(0, .ref (xo E)), (2, va_rf y2), (3, .int q.1), (4, .int q.2.1), (5, .int q.2.2)] → W p l e (xRm 3 63 (nf - n0) (sf - s0)) s m args below meth c H locs cells slots Q (F0 m 35 ls []))) (hE77 : ∀ b, res = Sum.inr (Sum.inl b) → (∀ (H : Heap) (locs : List Loc) (cells slots : Nat) (ls : Array Slot), xR E σ H → va_S (xAA E) s.heap H locs → XN cells slots n0 s0 nf sf σ → lv_has ls 7 [(5, .int b)] → W p l e (xRm 3 63 (nf - n0) (sf - s0)) s m args below meth c H locs cells slots Q (F0 m 77 ls []))) (hE106 : ∀ b, res = Sum.inr (Sum.inr b) → (∀ (H : Heap) (locs : List Loc) (cells slots : Nat) (ls : Array Slot), xR E σ H → va_S (xAA E) s.heap H locs → XN cells slots n0 s0 nf sf σ → lv_has ls 7 [(4, .int b)] → W p l e (xRm 3 63 (nf - n0) (sf - s0)) s m args below meth c H locs cells slots Q (F0 m 106 ls []))) : (∀ (H : Heap) (locs : List Loc) (cells slots : Nat) (ls : Array Slot), xR E σ H → va_S (xAA E) s.heap H locs → XN cells slots n0 s0 nf sf σ → lv_has ls 7 [(0, .ref (xo E)), (2, va_rf y2), (3, .int q.1), (4, .int q.2.1), (5, .int q.2.2)] → W p l e (xRm 3 63 (nf - n0) (sf - s0)) s m args below meth c H locs cells slots Q (F0 m 35 ls [])) := by
  replace hf : ((fX0_length y2 σ).bind (fun v4 => if v4 ≤ q.2.2 then some (Sum.inr (Sum.inr q.2.1)) else (fX0_number y2 q.2.2 σ).bind (fun v5 => (fX0_areSet v5 σ).bind (fun v6 => if v6 = (0 : Int32) then some (Sum.inr (Sum.inl q.2.2)) else if (v5 &&& q.1) = (0 : Int32) then (fX0_isKnot v5 σ).bind (fun v7 => if v7 = (0 : Int32) then some (Sum.inr (Sum.inl q.2.2)) else (some (q.1 ||| v5)).bind (fun v8 => (fX0_ones v5).bind (fun v9 => (some (q.2.1 + (v9 - (1 : Int32)))).bind (fun v10 => some (Sum.inl (v8, v10, q.2.2 + (1 : Int32))))))) else some (Sum.inr (Sum.inl q.2.2)))))) = some res := hf
  obtain ⟨hx, hb, hml, hown, hts⟩ := S.1.1
  intro H locs cells slots ls hR hS hn hl
  refine lv_iload hx hb dX0_packs_35 (lv_at hl 4 rfl) ?_
  refine x_aload_n (r := y2) hx hb dX0_packs_37 rfl (lv_at hl 1 rfl) ?_
  refine k_bind hf (fun v4 hv4 hf => ?_)
  refine x_callS (As := [va_rf y2]) (rest := [.int q.2.2]) S hR hS hn (met_X0_length hv4) (rl1.rf _) (hn.b (rl0.rf _)) wi_X0_length q1571 ⟨Nat.le_of_ble_eq_true rfl, Nat.le_of_ble_eq_true rfl⟩ rfl hl.1 rfl (Nat.le_of_ble_eq_true rfl) dX0_packs_38 (fun H locs cells slots hR hS hn => ?_)
  refine lv_icmp_ge (tgt := 106) hx hb dX0_packs_41 (by decide) (fun c_41 => ?_) (fun c_41 => ?_)
  · replace hf := o_t hf c_41
    exact hE106 _ (Option.some.inj hf).symm _ _ _ _ _ hR hS hn (lv_sub (l' := [(4, .int q.2.1)]) hl [3] rfl)
  · replace hf := o_f hf c_41
    refine x_aload_n (r := y2) hx hb dX0_packs_44 rfl (lv_at hl 1 rfl) ?_
    refine lv_iload hx hb dX0_packs_45 (lv_at hl 4 rfl) ?_
    refine k_bind hf (fun v5 hv5 hf => ?_)
    refine x_callS (As := [va_rf y2, .int q.2.2]) (rest := []) S hR hS hn (met_X0_number hv5) (rl1.rf _) (hn.b (rl0.rf _)) wi_X0_number q1577 ⟨Nat.le_of_ble_eq_true rfl, Nat.le_of_ble_eq_true rfl⟩ rfl hl.1 rfl (Nat.le_of_ble_eq_true rfl) dX0_packs_47 (fun H locs cells slots hR hS hn => ?_)
    refine lv_istore (lv' := [(6, .int v5), (0, .ref (xo E)), (2, va_rf y2), (3, .int q.1), (4, .int q.2.1), (5, .int q.2.2)]) hx hb dX0_packs_50 hl (by decide) rfl (fun ls hl => ?_)
    refine lv_aload_n hx hb dX0_packs_52 rfl (lv_at hl 1 rfl) ?_
    refine lv_iload hx hb dX0_packs_53 (lv_at hl 0 rfl) ?_
    refine k_bind hf (fun v6 hv6 hf => ?_)
    refine x_call (C := RX0) (As := [.int v5]) (rest := []) S hR hS hn (met_X0_areSet hv6) (rl1.rf _) (hn.b (rl0.rf _)) wi_X0_areSet (xrc S.2 hR (ci := 0) rfl (Or.inl ⟨rfl, rfl⟩)) rfl q659 ⟨Nat.le_of_ble_eq_true rfl, Nat.le_of_ble_eq_true rfl⟩ rfl hl.1 rfl (Nat.le_of_ble_eq_true rfl) dX0_packs_55 (fun H locs cells slots hR hS hn => ?_)
    refine lv_if_eq (tgt := 77) hx hb dX0_packs_58 (by decide) (fun c_58 => ?_) (fun c_58 => ?_)
    · replace hf := o_t hf c_58
      exact hE77 _ (Option.some.inj hf).symm _ _ _ _ _ hR hS hn (lv_sub (l' := [(5, .int q.2.2)]) hl [5] rfl)
    · replace hf := o_f hf c_58
      refine lv_iload hx hb dX0_packs_61 (lv_at hl 0 rfl) ?_
      refine lv_iload_n hx hb dX0_packs_63 rfl (lv_at hl 3 rfl) ?_
      refine lv_iand hx hb dX0_packs_64 ?_
      refine lv_if_ne (tgt := 77) hx hb dX0_packs_65 (by decide) (fun c_65 => ?_) (fun c_65 => ?_)
      · replace hf := o_f hf c_65
        exact hE77 _ (Option.some.inj hf).symm _ _ _ _ _ hR hS hn (lv_sub (l' := [(5, .int q.2.2)]) hl [5] rfl)
      · replace hf := o_t hf c_65
        refine lv_aload_n hx hb dX0_packs_68 rfl (lv_at hl 1 rfl) ?_
        refine lv_iload hx hb dX0_packs_69 (lv_at hl 0 rfl) ?_
        refine k_bind hf (fun v7 hv7 hf => ?_)
        refine x_call (C := RX0) (As := [.int v5]) (rest := []) S hR hS hn (met_X0_isKnot hv7) (rl1.rf _) (hn.b (rl0.rf _)) wi_X0_isKnot (xrc S.2 hR (ci := 0) rfl (Or.inl ⟨rfl, rfl⟩)) rfl q1580 ⟨Nat.le_of_ble_eq_true rfl, Nat.le_of_ble_eq_true rfl⟩ rfl hl.1 rfl (Nat.le_of_ble_eq_true rfl) dX0_packs_71 (fun H locs cells slots hR hS hn => ?_)
        refine lv_if_ne (tgt := 83) hx hb dX0_packs_74 (by decide) (fun c_74 => ?_) (fun c_74 => ?_)
        · replace hf := o_f hf c_74
          refine lv_iload_n hx hb dX0_packs_83 rfl (lv_at hl 3 rfl) ?_
          refine lv_iload hx hb dX0_packs_84 (lv_at hl 0 rfl) ?_
          refine lv_ior hx hb dX0_packs_86 ?_
          refine k_bind hf (fun v8 hv8 hf => ?_)
          refine m_nmi hv8 ?_
          refine lv_istore_n (lv' := [(3, .int v8), (6, .int v5), (0, .ref (xo E)), (2, va_rf y2), (4, .int q.2.1), (5, .int q.2.2)]) hx hb dX0_packs_87 rfl hl (by decide) rfl (fun ls hl => ?_)
          refine lv_iload hx hb dX0_packs_88 (lv_at hl 4 rfl) ?_
          refine lv_iload hx hb dX0_packs_90 (lv_at hl 1 rfl) ?_
          refine k_bind hf (fun v9 hv9 hf => ?_)
          refine s_call (As := [.int v5]) (rest := [.int q.2.1]) S.1.1 (met_X0_ones hv9) wi_X0_ones q637 ⟨rfl, rfl⟩ ⟨Nat.le_of_ble_eq_true rfl, Nat.le_of_ble_eq_true rfl⟩ rfl hl.1 rfl (Nat.le_of_ble_eq_true rfl) dX0_packs_92 hn.cs ?_
          refine lv_iconst (v := 1) hx hb dX0_packs_95 (by decide) ?_
          refine lv_isub hx hb dX0_packs_96 ?_
          refine lv_iadd hx hb dX0_packs_97 ?_
          refine k_bind hf (fun v10 hv10 hf => ?_)
          refine m_nmi hv10 ?_
          refine lv_istore (lv' := [(4, .int v10), (3, .int v8), (6, .int v5), (0, .ref (xo E)), (2, va_rf y2), (5, .int q.2.2)]) hx hb dX0_packs_98 hl (by decide) rfl (fun ls hl => ?_)
          refine lv_iinc (lv' := [(5, .int (q.2.2 + (1 : Int32))), (4, .int v10), (3, .int v8), (6, .int v5), (0, .ref (xo E)), (2, va_rf y2)]) hx hb dX0_packs_100 hl (k := 5) rfl (m_inc (by decide)) (by decide) rfl (fun ls hl => ?_)
          refine lv_goto (tgt := 35) hx hb dX0_packs_103 (by decide) ?_
          exact hK _ (Option.some.inj hf).symm _ _ _ _ _ hR hS hn (lv_sub (l' := [(0, .ref (xo E)), (2, va_rf y2), (3, .int v8), (4, .int v10), (5, .int (q.2.2 + (1 : Int32)))]) hl [4, 5, 2, 1, 0] rfl)
        · replace hf := o_t hf c_74
          exact hE77 _ (Option.some.inj hf).symm _ _ _ _ _ hR hS hn (lv_sub (l' := [(5, .int q.2.2)]) hl [5] rfl)
set_option maxHeartbeats 4000000 in
set_option maxRecDepth 100000 in
theorem wLX0_packs_35 {l : Launch} {E : xG} {p : Program} {e : Env} {s : State} {m : MethodId} {args : Array Value} {below : List Frame} {meth : Method} {c : Code} {Q : State → Prop} {n0 s0 nf sf : Nat} {y2 : Option Nat} {σ : xS} {q : Int32 × Int32 × Int32} {res : (Int32) ⊕ (Int32)} (S : xSt E RX0 p m c cX0_packs 7 s args meth (Option.some Jvm.ClassFile.FieldType.int)) (h : lpw (LX0_packs_35 y2 σ) q = some res) (hE77 : ∀ b, res = (Sum.inl b) → (∀ (H : Heap) (locs : List Loc) (cells slots : Nat) (ls : Array Slot), xR E σ H → va_S (xAA E) s.heap H locs → XN cells slots n0 s0 nf sf σ → lv_has ls 7 [(5, .int b)] → W p l e (xRm 3 63 (nf - n0) (sf - s0)) s m args below meth c H locs cells slots Q (F0 m 77 ls []))) (hE106 : ∀ b, res = (Sum.inr b) → (∀ (H : Heap) (locs : List Loc) (cells slots : Nat) (ls : Array Slot), xR E σ H → va_S (xAA E) s.heap H locs → XN cells slots n0 s0 nf sf σ → lv_has ls 7 [(4, .int b)] → W p l e (xRm 3 63 (nf - n0) (sf - s0)) s m args below meth c H locs cells slots Q (F0 m 106 ls []))) : (∀ (H : Heap) (locs : List Loc) (cells slots : Nat) (ls : Array Slot), xR E σ H → va_S (xAA E) s.heap H locs → XN cells slots n0 s0 nf sf σ → lv_has ls 7 [(0, .ref (xo E)), (2, va_rf y2), (3, .int q.1), (4, .int q.2.1), (5, .int q.2.2)] → W p l e (xRm 3 63 (nf - n0) (sf - s0)) s m args below meth c H locs cells slots Q (F0 m 35 ls [])) :=
  lpw_go _ (fun q => (∀ (H : Heap) (locs : List Loc) (cells slots : Nat) (ls : Array Slot), xR E σ H → va_S (xAA E) s.heap H locs → XN cells slots n0 s0 nf sf σ → lv_has ls 7 [(0, .ref (xo E)), (2, va_rf y2), (3, .int q.1), (4, .int q.2.1), (5, .int q.2.2)] → W p l e (xRm 3 63 (nf - n0) (sf - s0)) s m args below meth c H locs cells slots Q (F0 m 35 ls []))) (fun b0 => (∀ b, b0 = (Sum.inl b) → (∀ (H : Heap) (locs : List Loc) (cells slots : Nat) (ls : Array Slot), xR E σ H → va_S (xAA E) s.heap H locs → XN cells slots n0 s0 nf sf σ → lv_has ls 7 [(5, .int b)] → W p l e (xRm 3 63 (nf - n0) (sf - s0)) s m args below meth c H locs cells slots Q (F0 m 77 ls []))) ∧ (∀ b, b0 = (Sum.inr b) → (∀ (H : Heap) (locs : List Loc) (cells slots : Nat) (ls : Array Slot), xR E σ H → va_S (xAA E) s.heap H locs → XN cells slots n0 s0 nf sf σ → lv_has ls 7 [(4, .int b)] → W p l e (xRm 3 63 (nf - n0) (sf - s0)) s m args below meth c H locs cells slots Q (F0 m 106 ls [])))) (fun q x hf hK hX => wbLX0_packs_35 S hf hK (fun b eb => (hX _ eb).1 b rfl) (fun b eb => (hX _ eb).2 b rfl)) q res h ⟨hE77, hE106⟩
set_option maxHeartbeats 4000000 in
set_option maxRecDepth 100000 in
theorem met_X0_packs {l : Launch} {E : xG} {x1 : Int32} {σ : xS} {res : Int32} (hf : fX0_packs x1 σ = some res) : xMet l yX0_packs cX0_packs 7 (Option.some Jvm.ClassFile.FieldType.int) 3 63 E [.ref (xo E), .int x1] σ (some (.int res)) σ := by
  replace hf : (if (fX0_isSheet x1) = (0 : Int32) then some (-2 : Int32) else (xlr σ 8 x1).bind (fun v1 => (v1).bind (fun a2 => (xgR σ [(3, 0)] a2).bind (fun v3 => if v3 = none then some (-11 : Int32) else (lpw (LX0_packs_35 v3 σ) ((0 : Int32), (0 : Int32), (0 : Int32))).bind ((fun e => Sum.elim (fun b12 => some ((-100 : Int32) - b12)) (fun b13 => some b13) e)))))) = some res := hf
  refine x_start (by decide) (Nat.le_of_ble_eq_true rfl) ?_
  intro p e s m args below meth c S hnm hR hS ls hl
  obtain ⟨hx, hb, hml, hown, hts⟩ := S.1.1
  have hl : lv_has ls 7 [(0, .ref (xo E)), (1, .int x1)] := hl
  have hn : XN 0 0 (xnx σ) (xns σ) (xnx σ) (xns σ) σ := ⟨Nat.zero_add _, Nat.zero_add _, (rl1.rf σ).1, (rl1.rf σ).2⟩
  refine lv_iload_n hx hb dX0_packs_0 rfl (lv_at hl 1 rfl) ?_
  refine s_call (As := [.int x1]) (rest := []) S.1.1 (met_X0_isSheet rfl) wi_X0_isSheet q1568 ⟨rfl, rfl⟩ ⟨Nat.le_of_ble_eq_true rfl, Nat.le_of_ble_eq_true rfl⟩ rfl hl.1 rfl (Nat.le_of_ble_eq_true rfl) dX0_packs_1 hn.cs ?_
  refine lv_if_ne (tgt := 10) hx hb dX0_packs_4 (by decide) (fun c_4 => ?_) (fun c_4 => ?_)
  · replace hf := o_f hf c_4
    refine lv_aload_n hx hb dX0_packs_10 rfl (lv_at hl 0 rfl) ?_
    refine x_oget (k := 30) (v := .ref (xar E 8)) S hR (lk_X0_75 _ List.mem_cons_self) rfl dX0_packs_11 ?_
    refine lv_iload_n hx hb dX0_packs_14 rfl (lv_at hl 1 rfl) ?_
    refine k_bind hf (fun v1 hv1 hf => ?_)
    refine x_slr S hR hv1 dX0_packs_15 ?_
    refine k_bind hf (fun a2 ha2 hf => ?_)
    rw [rf_some ha2]
    refine k_bind hf (fun v3 hv3 hf => ?_)
    refine x_getN S hR lk_X0_384 (xgR_g hv3) dX0_packs_16 ?_
    refine x_astore_n (r := v3) (lv' := [(2, va_rf v3), (0, .ref (xo E)), (1, .int x1)]) hx hb dX0_packs_19 rfl hl (by decide) rfl (fun ls hl => ?_)
    refine x_aload_n (r := v3) hx hb dX0_packs_20 rfl (lv_at hl 0 rfl) ?_
    refine x_ifnonnull (r := v3) (tgt := 27) hx hb dX0_packs_21 (by decide) (fun c_21 => ?_) (fun c_21 => ?_)
    · replace hf := o_f hf c_21
      refine lv_iconst (v := 0) hx hb dX0_packs_27 (by decide) ?_
      refine lv_istore_n (lv' := [(3, .int (0 : Int32)), (2, va_rf v3), (0, .ref (xo E)), (1, .int x1)]) hx hb dX0_packs_28 rfl hl (by decide) rfl (fun ls hl => ?_)
      refine lv_iconst (v := 0) hx hb dX0_packs_29 (by decide) ?_
      refine lv_istore (lv' := [(4, .int (0 : Int32)), (3, .int (0 : Int32)), (2, va_rf v3), (0, .ref (xo E)), (1, .int x1)]) hx hb dX0_packs_30 hl (by decide) rfl (fun ls hl => ?_)
      refine lv_iconst (v := 0) hx hb dX0_packs_32 (by decide) ?_
      refine lv_istore (lv' := [(5, .int (0 : Int32)), (4, .int (0 : Int32)), (3, .int (0 : Int32)), (2, va_rf v3), (0, .ref (xo E)), (1, .int x1)]) hx hb dX0_packs_33 hl (by decide) rfl (fun ls hl => ?_)
      refine k_bind hf (fun b11 hb11 hf => ?_)
      refine wLX0_packs_35 S hb11 ?_ ?_ _ _ _ _ _ hR hS hn (lv_sub (l' := [(0, .ref (xo E)), (2, va_rf v3), (3, .int (0 : Int32)), (4, .int (0 : Int32)), (5, .int (0 : Int32))]) hl [4, 3, 2, 1, 0] rfl)
      · intro b12 eb; subst eb; intro H locs cells slots ls hR hS hn hl
        replace hf := o_l hf
        refine lv_bipush (v := -100) hx hb dX0_packs_77 (by decide) ?_
        refine lv_iload hx hb dX0_packs_79 (lv_at hl 0 rfl) ?_
        refine lv_isub hx hb dX0_packs_81 ?_
        obtain rfl := Option.some.inj hf
        exact x_iret S hR hS hn rfl dX0_packs_82
      · intro b13 eb; subst eb; intro H locs cells slots ls hR hS hn hl
        replace hf := o_r hf
        refine lv_iload hx hb dX0_packs_106 (lv_at hl 0 rfl) ?_
        obtain rfl := Option.some.inj hf
        exact x_iret S hR hS hn rfl dX0_packs_108
    · replace hf := o_t hf c_21
      refine lv_bipush (v := -11) hx hb dX0_packs_24 (by decide) ?_
      obtain rfl := Option.some.inj hf
      exact x_iret S hR hS hn rfl dX0_packs_26
  · replace hf := o_t hf c_4
    refine lv_bipush (v := -2) hx hb dX0_packs_7 (by decide) ?_
    obtain rfl := Option.some.inj hf
    exact x_iret S hR hS hn rfl dX0_packs_9


noncomputable def fX0_search (x1 : Int32) (x2 : Int32) (σ : xS) : Option (Int32) :=
  if (fX0_in x1 (0 : Int32) (12 : Int32)) = (0 : Int32) then some (-2 : Int32) else if (fX0_in x2 (0 : Int32) (4 : Int32)) = (0 : Int32) then some (-2 : Int32) else none
theorem wi_X0_search : wInfV yX0_search cX0_search 4 (Option.some Jvm.ClassFile.FieldType.int) 2 := ⟨q1585, q1586, q106, q1587, (by decide +kernel), (by decide +kernel), (by decide +kernel)⟩
set_option maxHeartbeats 4000000 in
set_option maxRecDepth 100000 in
theorem met_X0_search {l : Launch} {E : xG} {x1 : Int32} {x2 : Int32} {σ : xS} {res : Int32} (hf : fX0_search x1 x2 σ = some res) : xMet l yX0_search cX0_search 4 (Option.some Jvm.ClassFile.FieldType.int) 1 22 E [.ref (xo E), .int x1, .int x2] σ (some (.int res)) σ := by
  replace hf : (if (fX0_in x1 (0 : Int32) (12 : Int32)) = (0 : Int32) then some (-2 : Int32) else if (fX0_in x2 (0 : Int32) (4 : Int32)) = (0 : Int32) then some (-2 : Int32) else none) = some res := hf
  refine x_start (by decide) (Nat.le_of_ble_eq_true rfl) ?_
  intro p e s m args below meth c S hnm hR hS ls hl
  obtain ⟨hx, hb, hml, hown, hts⟩ := S.1.1
  have hl : lv_has ls 4 [(0, .ref (xo E)), (1, .int x1), (2, .int x2)] := hl
  have hn : XN 0 0 (xnx σ) (xns σ) (xnx σ) (xns σ) σ := ⟨Nat.zero_add _, Nat.zero_add _, (rl1.rf σ).1, (rl1.rf σ).2⟩
  refine lv_iload_n hx hb dX0_search_0 rfl (lv_at hl 1 rfl) ?_
  refine lv_iconst (v := 0) hx hb dX0_search_1 (by decide) ?_
  refine lv_bipush (v := 12) hx hb dX0_search_2 (by decide) ?_
  refine s_call (As := [.int x1, .int (0 : Int32), .int (12 : Int32)]) (rest := []) S.1.1 (met_X0_in rfl) wi_X0_in q479 ⟨rfl, rfl⟩ ⟨Nat.le_of_ble_eq_true rfl, Nat.le_of_ble_eq_true rfl⟩ rfl hl.1 rfl (Nat.le_of_ble_eq_true rfl) dX0_search_4 hn.cs ?_
  refine lv_if_eq (tgt := 19) hx hb dX0_search_7 (by decide) (fun c_7 => ?_) (fun c_7 => ?_)
  · replace hf := o_t hf c_7
    refine lv_bipush (v := -2) hx hb dX0_search_19 (by decide) ?_
    obtain rfl := Option.some.inj hf
    exact x_iret S hR hS hn rfl dX0_search_21
  · replace hf := o_f hf c_7
    refine lv_iload_n hx hb dX0_search_10 rfl (lv_at hl 2 rfl) ?_
    refine lv_iconst (v := 0) hx hb dX0_search_11 (by decide) ?_
    refine lv_iconst (v := 4) hx hb dX0_search_12 (by decide) ?_
    refine s_call (As := [.int x2, .int (0 : Int32), .int (4 : Int32)]) (rest := []) S.1.1 (met_X0_in rfl) wi_X0_in q479 ⟨rfl, rfl⟩ ⟨Nat.le_of_ble_eq_true rfl, Nat.le_of_ble_eq_true rfl⟩ rfl hl.1 rfl (Nat.le_of_ble_eq_true rfl) dX0_search_13 hn.cs ?_
    refine lv_if_ne (tgt := 22) hx hb dX0_search_16 (by decide) (fun c_16 => ?_) (fun c_16 => ?_)
    · replace hf := o_f hf c_16
      refine lv_aload_n hx hb dX0_search_22 rfl (lv_at hl 0 rfl) ?_
      refine lv_iload_n hx hb dX0_search_23 rfl (lv_at hl 1 rfl) ?_
      cases hf
    · replace hf := o_t hf c_16
      refine lv_bipush (v := -2) hx hb dX0_search_19 (by decide) ?_
      obtain rfl := Option.some.inj hf
      exact x_iret S hR hS hn rfl dX0_search_21

theorem lk_X0_405 : ∀ q ∈ ([(0, 19)] : List (Nat × Nat)), wLk RX0 405 q.1 q.2 := List.forall_mem_cons.mpr ⟨⟨RX0, TX0, 32, "LinesTouched", rfl, by decide, in_X0, q397, Or.inl rfl⟩, fun _ h => absurd h List.not_mem_nil⟩
theorem pt_X0_405 : ∀ q ∈ ([(0, 19)] : List (Nat × Nat)), wLk RX0 405 q.1 q.2 ∧ wPt q.1 q.2 .int false RX0 := List.forall_mem_cons.mpr ⟨⟨⟨RX0, TX0, 32, "LinesTouched", rfl, by decide, in_X0, q397, Or.inl rfl⟩, ⟨RX0, TX0, 32, tyX0, rfl, by decide, rfl, by decide +kernel, nmX0, tyX0_ok, fun h => absurd h (by decide)⟩⟩, fun _ h => absurd h List.not_mem_nil⟩
theorem lk_X0_408 : ∀ q ∈ ([(0, 20)] : List (Nat × Nat)), wLk RX0 408 q.1 q.2 := List.forall_mem_cons.mpr ⟨⟨RX0, TX0, 32, "LinesTouched", rfl, by decide, in_X0, q398, Or.inl rfl⟩, fun _ h => absurd h List.not_mem_nil⟩
theorem pt_X0_408 : ∀ q ∈ ([(0, 20)] : List (Nat × Nat)), wLk RX0 408 q.1 q.2 ∧ wPt q.1 q.2 .int false RX0 := List.forall_mem_cons.mpr ⟨⟨⟨RX0, TX0, 32, "LinesTouched", rfl, by decide, in_X0, q398, Or.inl rfl⟩, ⟨RX0, TX0, 32, tyX0, rfl, by decide, rfl, by decide +kernel, nmX0, tyX0_ok, fun h => absurd h (by decide)⟩⟩, fun _ h => absurd h List.not_mem_nil⟩
theorem lk_X0_409 : ∀ q ∈ ([(0, 21)] : List (Nat × Nat)), wLk RX0 409 q.1 q.2 := List.forall_mem_cons.mpr ⟨⟨RX0, TX0, 32, "LinesTouched", rfl, by decide, in_X0, q399, Or.inl rfl⟩, fun _ h => absurd h List.not_mem_nil⟩
theorem pt_X0_409 : ∀ q ∈ ([(0, 21)] : List (Nat × Nat)), wLk RX0 409 q.1 q.2 ∧ wPt q.1 q.2 .int false RX0 := List.forall_mem_cons.mpr ⟨⟨⟨RX0, TX0, 32, "LinesTouched", rfl, by decide, in_X0, q399, Or.inl rfl⟩, ⟨RX0, TX0, 32, tyX0, rfl, by decide, rfl, by decide +kernel, nmX0, tyX0_ok, fun h => absurd h (by decide)⟩⟩, fun _ h => absurd h List.not_mem_nil⟩
noncomputable def fX0_begins (x1 : Int32) (σ : xS) : Option (xS) :=
  (fX1_all (0 : Fin 3) σ).bind (fun v1 => (xpI σ 19 v1).bind (fun σ2 => (xpI σ2 20 (0 : Int32)).bind (fun σ3 => (xpI σ3 21 x1).bind (fun σ4 => some σ4))))
theorem wi_X0_begins : wInfV yX0_begins cX0_begins 2 (Option.none : Option Jvm.ClassFile.FieldType) 1 := ⟨q1595, qs29, q106, q1596, (by decide +kernel), (by decide +kernel), (by decide +kernel)⟩
set_option maxHeartbeats 4000000 in
set_option maxRecDepth 100000 in
theorem r0_X0_begins {x1 : Int32} {σ : xS} {res : xS} (hf : fX0_begins x1 σ = some res) : rl0 σ res := by
  replace hf : ((fX1_all (0 : Fin 3) σ).bind (fun v1 => (xpI σ 19 v1).bind (fun σ2 => (xpI σ2 20 (0 : Int32)).bind (fun σ3 => (xpI σ3 21 x1).bind (fun σ4 => some σ4))))) = some res := hf
  refine k_bind hf (fun v1 hv1 hf => ?_)
  refine k_bind hf (fun σ2 hσ2 hf => ?_)
  refine rl0.tr (r0_pI hσ2) ?_
  refine k_bind hf (fun σ3 hσ3 hf => ?_)
  refine rl0.tr (r0_pI hσ3) ?_
  refine k_bind hf (fun σ4 hσ4 hf => ?_)
  refine rl0.tr (r0_pI hσ4) ?_
  obtain rfl := Option.some.inj hf
  exact rl0.rf _
set_option maxHeartbeats 4000000 in
set_option maxRecDepth 100000 in
theorem met_X0_begins {l : Launch} {E : xG} {x1 : Int32} {σ : xS} {res : xS} (hf : fX0_begins x1 σ = some res) : xMet l yX0_begins cX0_begins 2 (Option.none : Option Jvm.ClassFile.FieldType) 1 20 E [.ref (xo E), .int x1] σ none res := by
  replace hf : ((fX1_all (0 : Fin 3) σ).bind (fun v1 => (xpI σ 19 v1).bind (fun σ2 => (xpI σ2 20 (0 : Int32)).bind (fun σ3 => (xpI σ3 21 x1).bind (fun σ4 => some σ4))))) = some res := hf
  refine x_start (by decide) (Nat.le_of_ble_eq_true rfl) ?_
  intro p e s m args below meth c S hnm hR hS ls hl
  obtain ⟨hx, hb, hml, hown, hts⟩ := S.1.1
  have hl : lv_has ls 2 [(0, .ref (xo E)), (1, .int x1)] := hl
  have hn : XN 0 0 (xnx σ) (xns σ) (xnx res) (xns res) σ := ⟨Nat.zero_add _, Nat.zero_add _, (r0_X0_begins (x1 := x1) (σ := σ) hf).le.1, (r0_X0_begins (x1 := x1) (σ := σ) hf).le.2⟩
  refine lv_aload_n hx hb dX0_begins_0 rfl (lv_at hl 0 rfl) ?_
  refine lv_aload_n hx hb dX0_begins_1 rfl (lv_at hl 0 rfl) ?_
  refine x_oget (k := 0) (v := .ref (xnt E (0 : Fin 3))) S hR (lk_X0_10 _ List.mem_cons_self) rfl dX0_begins_2 ?_
  refine k_bind hf (fun v1 hv1 hf => ?_)
  refine x_call (C := RX1) (As := []) (rest := [.ref (xo E)]) S hR hS hn (met_X1_all hv1) (rl1.rf _) (hn.b (rl0.rf _)) wi_X1_all (xrc S.2 hR (ci := 1) rfl (Or.inr (Or.inl ⟨_, rfl, rfl⟩))) rfl q663 ⟨Nat.le_of_ble_eq_true rfl, Nat.le_of_ble_eq_true rfl⟩ rfl hl.1 rfl (Nat.le_of_ble_eq_true rfl) dX0_begins_5 (fun H locs cells slots hR hS hn => ?_)
  refine k_bind hf (fun σ2 hσ2 hf => ?_)
  refine x_oput (k := 19) S hR hS hσ2 rfl (pt_X0_405 _ List.mem_cons_self).1 (pt_X0_405 _ List.mem_cons_self).2 rfl rfl (by decide) dX0_begins_8 (fun H locs hR hS => ?_)
  replace hn := hn.to (r0_pI hσ2)
  refine lv_aload_n hx hb dX0_begins_11 rfl (lv_at hl 0 rfl) ?_
  refine lv_iconst (v := 0) hx hb dX0_begins_12 (by decide) ?_
  refine k_bind hf (fun σ3 hσ3 hf => ?_)
  refine x_oput (k := 20) S hR hS hσ3 rfl (pt_X0_408 _ List.mem_cons_self).1 (pt_X0_408 _ List.mem_cons_self).2 rfl rfl (by decide) dX0_begins_13 (fun H locs hR hS => ?_)
  replace hn := hn.to (r0_pI hσ3)
  refine lv_aload_n hx hb dX0_begins_16 rfl (lv_at hl 0 rfl) ?_
  refine lv_iload_n hx hb dX0_begins_17 rfl (lv_at hl 1 rfl) ?_
  refine k_bind hf (fun σ4 hσ4 hf => ?_)
  refine x_oput (k := 21) S hR hS hσ4 rfl (pt_X0_409 _ List.mem_cons_self).1 (pt_X0_409 _ List.mem_cons_self).2 rfl rfl (by decide) dX0_begins_18 (fun H locs hR hS => ?_)
  replace hn := hn.to (r0_pI hσ4)
  obtain rfl := Option.some.inj hf
  exact x_vret S hR hS hn dX0_begins_21


noncomputable def fX0_caught (σ : xS) : Option (Option Nat) :=
  (some (xI σ 19)).bind (fun v1 => (some (xI σ 20)).bind (fun v2 => (some (xI σ 21)).bind (fun v3 => none)))
theorem wi_X0_caught : wInfV yX0_caught cX0_caught 4 (Option.some (Jvm.ClassFile.FieldType.object "LinesTouched$Undo")) 0 := ⟨q1710, qs33, q106, q1711, (by decide +kernel), (by decide +kernel), (by decide +kernel)⟩
set_option maxHeartbeats 4000000 in
set_option maxRecDepth 100000 in
theorem met_X0_caught {l : Launch} {E : xG} {σ : xS} {res : Option Nat} (hf : fX0_caught σ = some res) : xMet l yX0_caught cX0_caught 4 (Option.some (Jvm.ClassFile.FieldType.object "LinesTouched$Undo")) 0 0 E [.ref (xo E)] σ (some (va_rf res)) σ := by
  replace hf : ((some (xI σ 19)).bind (fun v1 => (some (xI σ 20)).bind (fun v2 => (some (xI σ 21)).bind (fun v3 => none)))) = some res := hf
  refine x_start (by decide) (Nat.le_of_ble_eq_true rfl) ?_
  intro p e s m args below meth c S hnm hR hS ls hl
  obtain ⟨hx, hb, hml, hown, hts⟩ := S.1.1
  have hl : lv_has ls 4 [(0, .ref (xo E))] := hl
  have hn : XN 0 0 (xnx σ) (xns σ) (xnx σ) (xns σ) σ := ⟨Nat.zero_add _, Nat.zero_add _, (rl1.rf σ).1, (rl1.rf σ).2⟩
  refine lv_aload_n hx hb dX0_caught_0 rfl (lv_at hl 0 rfl) ?_
  refine x_oget (k := 19) (v := .int (xI σ 19)) S hR (lk_X0_405 _ List.mem_cons_self) rfl dX0_caught_1 ?_
  refine k_bind hf (fun v1 hv1 hf => ?_)
  refine m_nmi hv1 ?_
  refine lv_istore_n (lv' := [(1, .int v1), (0, .ref (xo E))]) hx hb dX0_caught_4 rfl hl (by decide) rfl (fun ls hl => ?_)
  refine lv_aload_n hx hb dX0_caught_5 rfl (lv_at hl 1 rfl) ?_
  refine x_oget (k := 20) (v := .int (xI σ 20)) S hR (lk_X0_408 _ List.mem_cons_self) rfl dX0_caught_6 ?_
  refine k_bind hf (fun v2 hv2 hf => ?_)
  refine m_nmi hv2 ?_
  refine lv_istore_n (lv' := [(2, .int v2), (1, .int v1), (0, .ref (xo E))]) hx hb dX0_caught_9 rfl hl (by decide) rfl (fun ls hl => ?_)
  refine lv_aload_n hx hb dX0_caught_10 rfl (lv_at hl 2 rfl) ?_
  refine x_oget (k := 21) (v := .int (xI σ 21)) S hR (lk_X0_409 _ List.mem_cons_self) rfl dX0_caught_11 ?_
  refine k_bind hf (fun v3 hv3 hf => ?_)
  refine m_nmi hv3 ?_
  refine lv_istore_n (lv' := [(3, .int v3), (2, .int v2), (1, .int v1), (0, .ref (xo E))]) hx hb dX0_caught_14 rfl hl (by decide) rfl (fun ls hl => ?_)
  refine lv_aload_n hx hb dX0_caught_15 rfl (lv_at hl 3 rfl) ?_
  refine lv_iload_n hx hb dX0_caught_16 rfl (lv_at hl 2 rfl) ?_
  refine lv_iload_n hx hb dX0_caught_17 rfl (lv_at hl 1 rfl) ?_
  refine lv_iload_n hx hb dX0_caught_18 rfl (lv_at hl 0 rfl) ?_
  cases hf


noncomputable def fX0_lambda_caught_4 (x1 : Int32) (x2 : Int32) (x3 : Int32) (σ : xS) : Option (xS) :=
  (xpI σ 19 x1).bind (fun σ1 => (xpI σ1 20 x2).bind (fun σ2 => (xpI σ2 21 x3).bind (fun σ3 => some σ3)))
theorem wi_X0_lambda_caught_4 : wInfV yX0_lambda_caught_4 cX0_lambda_caught_4 4 (Option.none : Option Jvm.ClassFile.FieldType) 3 := ⟨q1713, qs34, q106, q1714, (by decide +kernel), (by decide +kernel), (by decide +kernel)⟩
set_option maxHeartbeats 4000000 in
set_option maxRecDepth 100000 in
theorem r0_X0_lambda_caught_4 {x1 : Int32} {x2 : Int32} {x3 : Int32} {σ : xS} {res : xS} (hf : fX0_lambda_caught_4 x1 x2 x3 σ = some res) : rl0 σ res := by
  replace hf : ((xpI σ 19 x1).bind (fun σ1 => (xpI σ1 20 x2).bind (fun σ2 => (xpI σ2 21 x3).bind (fun σ3 => some σ3)))) = some res := hf
  refine k_bind hf (fun σ1 hσ1 hf => ?_)
  refine rl0.tr (r0_pI hσ1) ?_
  refine k_bind hf (fun σ2 hσ2 hf => ?_)
  refine rl0.tr (r0_pI hσ2) ?_
  refine k_bind hf (fun σ3 hσ3 hf => ?_)
  refine rl0.tr (r0_pI hσ3) ?_
  obtain rfl := Option.some.inj hf
  exact rl0.rf _
set_option maxHeartbeats 4000000 in
set_option maxRecDepth 100000 in
theorem met_X0_lambda_caught_4 {l : Launch} {E : xG} {x1 : Int32} {x2 : Int32} {x3 : Int32} {σ : xS} {res : xS} (hf : fX0_lambda_caught_4 x1 x2 x3 σ = some res) : xMet l yX0_lambda_caught_4 cX0_lambda_caught_4 4 (Option.none : Option Jvm.ClassFile.FieldType) 0 0 E [.ref (xo E), .int x1, .int x2, .int x3] σ none res := by
  replace hf : ((xpI σ 19 x1).bind (fun σ1 => (xpI σ1 20 x2).bind (fun σ2 => (xpI σ2 21 x3).bind (fun σ3 => some σ3)))) = some res := hf
  refine x_start (by decide) (Nat.le_of_ble_eq_true rfl) ?_
  intro p e s m args below meth c S hnm hR hS ls hl
  obtain ⟨hx, hb, hml, hown, hts⟩ := S.1.1
  have hl : lv_has ls 4 [(0, .ref (xo E)), (1, .int x1), (2, .int x2), (3, .int x3)] := hl
  have hn : XN 0 0 (xnx σ) (xns σ) (xnx res) (xns res) σ := ⟨Nat.zero_add _, Nat.zero_add _, (r0_X0_lambda_caught_4 (x1 := x1) (x2 := x2) (x3 := x3) (σ := σ) hf).le.1, (r0_X0_lambda_caught_4 (x1 := x1) (x2 := x2) (x3 := x3) (σ := σ) hf).le.2⟩
  refine lv_aload_n hx hb dX0_lambda_caught_4_0 rfl (lv_at hl 0 rfl) ?_
  refine lv_iload_n hx hb dX0_lambda_caught_4_1 rfl (lv_at hl 1 rfl) ?_
  refine k_bind hf (fun σ1 hσ1 hf => ?_)
  refine x_oput (k := 19) S hR hS hσ1 rfl (pt_X0_405 _ List.mem_cons_self).1 (pt_X0_405 _ List.mem_cons_self).2 rfl rfl (by decide) dX0_lambda_caught_4_2 (fun H locs hR hS => ?_)
  replace hn := hn.to (r0_pI hσ1)
  refine lv_aload_n hx hb dX0_lambda_caught_4_5 rfl (lv_at hl 0 rfl) ?_
  refine lv_iload_n hx hb dX0_lambda_caught_4_6 rfl (lv_at hl 2 rfl) ?_
  refine k_bind hf (fun σ2 hσ2 hf => ?_)
  refine x_oput (k := 20) S hR hS hσ2 rfl (pt_X0_408 _ List.mem_cons_self).1 (pt_X0_408 _ List.mem_cons_self).2 rfl rfl (by decide) dX0_lambda_caught_4_7 (fun H locs hR hS => ?_)
  replace hn := hn.to (r0_pI hσ2)
  refine lv_aload_n hx hb dX0_lambda_caught_4_10 rfl (lv_at hl 0 rfl) ?_
  refine lv_iload_n hx hb dX0_lambda_caught_4_11 rfl (lv_at hl 3 rfl) ?_
  refine k_bind hf (fun σ3 hσ3 hf => ?_)
  refine x_oput (k := 21) S hR hS hσ3 rfl (pt_X0_409 _ List.mem_cons_self).1 (pt_X0_409 _ List.mem_cons_self).2 rfl rfl (by decide) dX0_lambda_caught_4_12 (fun H locs hR hS => ?_)
  replace hn := hn.to (r0_pI hσ3)
  obtain rfl := Option.some.inj hf
  exact x_vret S hR hS hn dX0_lambda_caught_4_15


noncomputable def JX0_takes_24 (y1 : Int32) (z0 : Int32) (σ : xS) : Option (xS) :=
  (xpI σ 19 ((xI σ 19) &&& ((z0 ||| (ish (1 : Int32) y1)) ^^^ (-1 : Int32)))).bind (fun σ2 => (xpI σ2 20 ((xI σ2 20) ||| z0)).bind (fun σ3 => (fX0_ones z0).bind (fun v4 => (xpI σ3 21 ((xI σ3 21) - v4)).bind (fun σ5 => some σ5))))
noncomputable def fX0_takes (x1 : Int32) (x2 : Int32) (σ : xS) : Option (xS) :=
  if x2 = (0 : Int32) then (xla 1 σ 11 x1).bind (fun v1 => JX0_takes_24 x1 (v1 &&& (xI σ 19)) σ) else JX0_takes_24 x1 (ish (1 : Int32) x1) σ
theorem wi_X0_takes : wInfV yX0_takes cX0_takes 4 (Option.none : Option Jvm.ClassFile.FieldType) 2 := ⟨q1717, qs35, q106, q1718, (by decide +kernel), (by decide +kernel), (by decide +kernel)⟩
set_option maxHeartbeats 4000000 in
set_option maxRecDepth 100000 in
theorem rJX0_takes_24 {y1 : Int32} {z0 : Int32} {σ : xS} {res : xS} (hf : JX0_takes_24 y1 z0 σ = some res) : rl0 σ res := by
  replace hf : ((xpI σ 19 ((xI σ 19) &&& ((z0 ||| (ish (1 : Int32) y1)) ^^^ (-1 : Int32)))).bind (fun σ2 => (xpI σ2 20 ((xI σ2 20) ||| z0)).bind (fun σ3 => (fX0_ones z0).bind (fun v4 => (xpI σ3 21 ((xI σ3 21) - v4)).bind (fun σ5 => some σ5))))) = some res := hf
  refine k_bind hf (fun σ2 hσ2 hf => ?_)
  refine rl0.tr (r0_pI hσ2) ?_
  refine k_bind hf (fun σ3 hσ3 hf => ?_)
  refine rl0.tr (r0_pI hσ3) ?_
  refine k_bind hf (fun v4 hv4 hf => ?_)
  refine k_bind hf (fun σ5 hσ5 hf => ?_)
  refine rl0.tr (r0_pI hσ5) ?_
  obtain rfl := Option.some.inj hf
  exact rl0.rf _
set_option maxHeartbeats 4000000 in
set_option maxRecDepth 100000 in
theorem r0_X0_takes {x1 : Int32} {x2 : Int32} {σ : xS} {res : xS} (hf : fX0_takes x1 x2 σ = some res) : rl0 σ res := by
  replace hf : (if x2 = (0 : Int32) then (xla 1 σ 11 x1).bind (fun v1 => JX0_takes_24 x1 (v1 &&& (xI σ 19)) σ) else JX0_takes_24 x1 (ish (1 : Int32) x1) σ) = some res := hf
  by_cases c0 : x2 = (0 : Int32)
  · replace hf := o_t hf c0
    refine k_bind hf (fun v1 hv1 hf => ?_)
    exact rJX0_takes_24 hf
  · replace hf := o_f hf c0
    exact rJX0_takes_24 hf
set_option maxHeartbeats 4000000 in
set_option maxRecDepth 100000 in
theorem wJX0_takes_24 {l : Launch} {E : xG} {p : Program} {e : Env} {s : State} {m : MethodId} {args : Array Value} {below : List Frame} {meth : Method} {c : Code} {σ0 : xS} {y1 : Int32} {z0 : Int32} {σ : xS} {res : xS} (S : xSt E RX0 p m c cX0_takes 4 s args meth (Option.none : Option Jvm.ClassFile.FieldType)) (hf : JX0_takes_24 y1 z0 σ = some res) : ∀ (H : Heap) (locs : List Loc) (cells slots : Nat) (ls : Array Slot), xR E σ H → va_S (xAA E) s.heap H locs → XN cells slots (xnx σ0) (xns σ0) (xnx res) (xns res) σ → lv_has ls 4 [(0, .ref (xo E)), (1, .int y1)] → W p l e (xRm 2 40 ((xnx res) - (xnx σ0)) ((xns res) - (xns σ0))) s m args below meth c H locs cells slots (MQ below (xQ E none res) args s (xnx res - xnx σ0) (xns res - xns σ0) (xAA E)) (F0 m 24 ls [.int z0]) := by
  replace hf : ((xpI σ 19 ((xI σ 19) &&& ((z0 ||| (ish (1 : Int32) y1)) ^^^ (-1 : Int32)))).bind (fun σ2 => (xpI σ2 20 ((xI σ2 20) ||| z0)).bind (fun σ3 => (fX0_ones z0).bind (fun v4 => (xpI σ3 21 ((xI σ3 21) - v4)).bind (fun σ5 => some σ5))))) = some res := hf
  obtain ⟨hx, hb, hml, hown, hts⟩ := S.1.1
  intro H locs cells slots ls hR hS hn hl
  refine lv_istore_n (lv' := [(3, .int z0), (0, .ref (xo E)), (1, .int y1)]) hx hb dX0_takes_24 rfl hl (by decide) rfl (fun ls hl => ?_)
  refine lv_aload_n hx hb dX0_takes_25 rfl (lv_at hl 1 rfl) ?_
  refine lv_dup hx hb dX0_takes_26 rfl ?_
  refine x_oget (k := 19) (v := .int (xI σ 19)) S hR (lk_X0_405 _ List.mem_cons_self) rfl dX0_takes_27 ?_
  refine lv_iload_n hx hb dX0_takes_30 rfl (lv_at hl 0 rfl) ?_
  refine lv_iconst (v := 1) hx hb dX0_takes_31 (by decide) ?_
  refine lv_iload_n hx hb dX0_takes_32 rfl (lv_at hl 2 rfl) ?_
  refine lv_ishl hx hb dX0_takes_33 ?_
  refine lv_ior hx hb dX0_takes_34 ?_
  refine lv_iconst (v := -1) hx hb dX0_takes_35 (by decide) ?_
  refine lv_ixor hx hb dX0_takes_36 ?_
  refine lv_iand hx hb dX0_takes_37 ?_
  refine k_bind hf (fun σ2 hσ2 hf => ?_)
  refine x_oput (k := 19) S hR hS hσ2 rfl (pt_X0_405 _ List.mem_cons_self).1 (pt_X0_405 _ List.mem_cons_self).2 rfl rfl (by decide) dX0_takes_38 (fun H locs hR hS => ?_)
  replace hn := hn.to (r0_pI hσ2)
  refine lv_aload_n hx hb dX0_takes_41 rfl (lv_at hl 1 rfl) ?_
  refine lv_dup hx hb dX0_takes_42 rfl ?_
  refine x_oget (k := 20) (v := .int (xI σ2 20)) S hR (lk_X0_408 _ List.mem_cons_self) rfl dX0_takes_43 ?_
  refine lv_iload_n hx hb dX0_takes_46 rfl (lv_at hl 0 rfl) ?_
  refine lv_ior hx hb dX0_takes_47 ?_
  refine k_bind hf (fun σ3 hσ3 hf => ?_)
  refine x_oput (k := 20) S hR hS hσ3 rfl (pt_X0_408 _ List.mem_cons_self).1 (pt_X0_408 _ List.mem_cons_self).2 rfl rfl (by decide) dX0_takes_48 (fun H locs hR hS => ?_)
  replace hn := hn.to (r0_pI hσ3)
  refine lv_aload_n hx hb dX0_takes_51 rfl (lv_at hl 1 rfl) ?_
  refine lv_dup hx hb dX0_takes_52 rfl ?_
  refine x_oget (k := 21) (v := .int (xI σ3 21)) S hR (lk_X0_409 _ List.mem_cons_self) rfl dX0_takes_53 ?_
  refine lv_iload_n hx hb dX0_takes_56 rfl (lv_at hl 0 rfl) ?_
  refine k_bind hf (fun v4 hv4 hf => ?_)
  refine s_call (As := [.int z0]) (rest := [.int (xI σ3 21), .ref (xo E)]) S.1.1 (met_X0_ones hv4) wi_X0_ones q637 ⟨rfl, rfl⟩ ⟨Nat.le_of_ble_eq_true rfl, Nat.le_of_ble_eq_true rfl⟩ rfl hl.1 rfl (Nat.le_of_ble_eq_true rfl) dX0_takes_57 hn.cs ?_
  refine lv_isub hx hb dX0_takes_60 ?_
  refine k_bind hf (fun σ5 hσ5 hf => ?_)
  refine x_oput (k := 21) S hR hS hσ5 rfl (pt_X0_409 _ List.mem_cons_self).1 (pt_X0_409 _ List.mem_cons_self).2 rfl rfl (by decide) dX0_takes_61 (fun H locs hR hS => ?_)
  replace hn := hn.to (r0_pI hσ5)
  obtain rfl := Option.some.inj hf
  exact x_vret S hR hS hn dX0_takes_64
set_option maxHeartbeats 4000000 in
set_option maxRecDepth 100000 in
theorem met_X0_takes {l : Launch} {E : xG} {x1 : Int32} {x2 : Int32} {σ : xS} {res : xS} (hf : fX0_takes x1 x2 σ = some res) : xMet l yX0_takes cX0_takes 4 (Option.none : Option Jvm.ClassFile.FieldType) 2 40 E [.ref (xo E), .int x1, .int x2] σ none res := by
  replace hf : (if x2 = (0 : Int32) then (xla 1 σ 11 x1).bind (fun v1 => JX0_takes_24 x1 (v1 &&& (xI σ 19)) σ) else JX0_takes_24 x1 (ish (1 : Int32) x1) σ) = some res := hf
  refine x_start (by decide) (Nat.le_of_ble_eq_true rfl) ?_
  intro p e s m args below meth c S hnm hR hS ls hl
  obtain ⟨hx, hb, hml, hown, hts⟩ := S.1.1
  have hl : lv_has ls 4 [(0, .ref (xo E)), (1, .int x1), (2, .int x2)] := hl
  have hn : XN 0 0 (xnx σ) (xns σ) (xnx res) (xns res) σ := ⟨Nat.zero_add _, Nat.zero_add _, (r0_X0_takes (x1 := x1) (x2 := x2) (σ := σ) hf).le.1, (r0_X0_takes (x1 := x1) (x2 := x2) (σ := σ) hf).le.2⟩
  refine lv_iload_n hx hb dX0_takes_0 rfl (lv_at hl 2 rfl) ?_
  refine lv_if_eq (tgt := 10) hx hb dX0_takes_1 (by decide) (fun c_1 => ?_) (fun c_1 => ?_)
  · replace hf := o_t hf c_1
    refine lv_aload_n hx hb dX0_takes_10 rfl (lv_at hl 0 rfl) ?_
    refine x_oget (k := 0) (v := .ref (xnt E (0 : Fin 3))) S hR (lk_X0_10 _ List.mem_cons_self) rfl dX0_takes_11 ?_
    refine x_ngetN (j := (0 : Fin 3)) (k := 1) (v := .ref (xar E 11)) S hR (lk_X0_152 _ List.mem_cons_self) rfl dX0_takes_14 ?_
    refine lv_iload_n hx hb dX0_takes_17 rfl (lv_at hl 1 rfl) ?_
    refine k_bind hf (fun v1 hv1 hf => ?_)
    refine x_sl1 S hR hv1 dX0_takes_18 ?_
    refine lv_aload_n hx hb dX0_takes_19 rfl (lv_at hl 0 rfl) ?_
    refine x_oget (k := 19) (v := .int (xI σ 19)) S hR (lk_X0_405 _ List.mem_cons_self) rfl dX0_takes_20 ?_
    refine lv_iand hx hb dX0_takes_23 ?_
    exact wJX0_takes_24 S hf _ _ _ _ _ hR hS hn (lv_sub (l' := [(0, .ref (xo E)), (1, .int x1)]) hl [0, 1] rfl)
  · replace hf := o_f hf c_1
    refine lv_iconst (v := 1) hx hb dX0_takes_4 (by decide) ?_
    refine lv_iload_n hx hb dX0_takes_5 rfl (lv_at hl 1 rfl) ?_
    refine lv_ishl hx hb dX0_takes_6 ?_
    refine lv_goto (tgt := 24) hx hb dX0_takes_7 (by decide) ?_
    exact wJX0_takes_24 S hf _ _ _ _ _ hR hS hn (lv_sub (l' := [(0, .ref (xo E)), (1, .int x1)]) hl [0, 1] rfl)

theorem lk_X0_419 : ∀ q ∈ ([(0, 18)] : List (Nat × Nat)), wLk RX0 419 q.1 q.2 := List.forall_mem_cons.mpr ⟨⟨RX0, TX0, 32, "LinesTouched", rfl, by decide, in_X0, q396, Or.inl rfl⟩, fun _ h => absurd h List.not_mem_nil⟩
theorem lk_X0_55 : ∀ q ∈ ([(0, 17)] : List (Nat × Nat)), wLk RX0 55 q.1 q.2 := List.forall_mem_cons.mpr ⟨⟨RX0, TX0, 32, "LinesTouched", rfl, by decide, in_X0, q395, Or.inl rfl⟩, fun _ h => absurd h List.not_mem_nil⟩
theorem lk_X0_425 : ∀ q ∈ ([(13, 4)] : List (Nat × Nat)), wLkN RX0 425 q.1 q.2 := List.forall_mem_cons.mpr ⟨⟨RX16, TX16, 5, "LinesTouched", rfl, by decide, in_X16, q1615⟩, fun _ h => absurd h List.not_mem_nil⟩
noncomputable def LX0_refusedMany_13 (σ : xS) (q : Int32 × Int32) : Option ((Int32 × Int32) ⊕ (Int32)) :=
  if (xI σ 18) ≤ q.2 then some (Sum.inr q.1) else (xlr σ 5 q.2).bind (fun v1 => (v1).bind (fun a2 => (xgI σ [(13, 4)] a2).bind (fun v3 => if v3 = (-1 : Int32) then (some (q.1 + (1 : Int32))).bind (fun v5 => some (Sum.inl (v5, q.2 + (1 : Int32)))) else (some (q.1 + (0 : Int32))).bind (fun v4 => some (Sum.inl (v4, q.2 + (1 : Int32)))))))
noncomputable def JX0_refusedMany_10 (z0 : Int32) (σ : xS) : Option (Int32) :=
  (lpw (LX0_refusedMany_13 σ) (z0, (0 : Int32))).bind (fun b6 => some b6)
noncomputable def fX0_refusedMany (x1 : Int32) (σ : xS) : Option (Int32) :=
  if x1 = (-1 : Int32) then JX0_refusedMany_10 (0 : Int32) σ else JX0_refusedMany_10 (-1 : Int32) σ
theorem wi_X0_refusedMany : wInfV yX0_refusedMany cX0_refusedMany 4 (Option.some Jvm.ClassFile.FieldType.int) 1 := ⟨q1725, qs36, q106, q1726, (by decide +kernel), (by decide +kernel), (by decide +kernel)⟩
set_option maxHeartbeats 4000000 in
set_option maxRecDepth 100000 in
theorem wbLX0_refusedMany_13 {l : Launch} {E : xG} {p : Program} {e : Env} {s : State} {m : MethodId} {args : Array Value} {below : List Frame} {meth : Method} {c : Code} {Q : State → Prop} {n0 s0 nf sf : Nat} {σ : xS} {q : Int32 × Int32} {res : (Int32 × Int32) ⊕ (Int32)} (S : xSt E RX0 p m c cX0_refusedMany 4 s args meth (Option.some Jvm.ClassFile.FieldType.int)) (hf : LX0_refusedMany_13 σ q = some res) (hK : ∀ q, res = Sum.inl q → (∀ (H : Heap) (locs : List Loc) (cells slots : Nat) (ls : Array Slot), xR E σ H → va_S (xAA E) s.heap H locs → XN cells slots n0 s0 nf sf σ → lv_has ls 4 [(0, .ref (xo E)), (2, .int q.1), (3, .int q.2)] → W p l e (xRm 0 0 (nf - n0) (sf - s0)) s m args below meth c H locs cells slots Q (F0 m 13 ls []))) (hE48 : ∀ b, res = Sum.inr b → (∀ (H : Heap) (locs : List Loc) (cells slots : Nat) (ls : Array Slot), xR E σ H → va_S (xAA E) s.heap H locs → XN cells slots n0 s0 nf sf σ → lv_has ls 4 [(2, .int b)] → W p l e (xRm 0 0 (nf - n0) (sf - s0)) s m args below meth c H locs cells slots Q (F0 m 48 ls []))) : (∀ (H : Heap) (locs : List Loc) (cells slots : Nat) (ls : Array Slot), xR E σ H → va_S (xAA E) s.heap H locs → XN cells slots n0 s0 nf sf σ → lv_has ls 4 [(0, .ref (xo E)), (2, .int q.1), (3, .int q.2)] → W p l e (xRm 0 0 (nf - n0) (sf - s0)) s m args below meth c H locs cells slots Q (F0 m 13 ls [])) := by
  replace hf : (if (xI σ 18) ≤ q.2 then some (Sum.inr q.1) else (xlr σ 5 q.2).bind (fun v1 => (v1).bind (fun a2 => (xgI σ [(13, 4)] a2).bind (fun v3 => if v3 = (-1 : Int32) then (some (q.1 + (1 : Int32))).bind (fun v5 => some (Sum.inl (v5, q.2 + (1 : Int32)))) else (some (q.1 + (0 : Int32))).bind (fun v4 => some (Sum.inl (v4, q.2 + (1 : Int32)))))))) = some res := hf
  obtain ⟨hx, hb, hml, hown, hts⟩ := S.1.1
  intro H locs cells slots ls hR hS hn hl
  refine lv_iload_n hx hb dX0_refusedMany_13 rfl (lv_at hl 2 rfl) ?_
  refine lv_aload_n hx hb dX0_refusedMany_14 rfl (lv_at hl 0 rfl) ?_
  refine x_oget (k := 18) (v := .int (xI σ 18)) S hR (lk_X0_419 _ List.mem_cons_self) rfl dX0_refusedMany_15 ?_
  refine lv_icmp_ge (tgt := 48) hx hb dX0_refusedMany_18 (by decide) (fun c_18 => ?_) (fun c_18 => ?_)
  · replace hf := o_t hf c_18
    exact hE48 _ (Option.some.inj hf).symm _ _ _ _ _ hR hS hn (lv_sub (l' := [(2, .int q.1)]) hl [1] rfl)
  · replace hf := o_f hf c_18
    refine lv_iload_n hx hb dX0_refusedMany_21 rfl (lv_at hl 1 rfl) ?_
    refine lv_aload_n hx hb dX0_refusedMany_22 rfl (lv_at hl 0 rfl) ?_
    refine x_oget (k := 17) (v := .ref (xar E 5)) S hR (lk_X0_55 _ List.mem_cons_self) rfl dX0_refusedMany_23 ?_
    refine lv_iload_n hx hb dX0_refusedMany_26 rfl (lv_at hl 2 rfl) ?_
    refine k_bind hf (fun v1 hv1 hf => ?_)
    refine x_slr S hR hv1 dX0_refusedMany_27 ?_
    refine k_bind hf (fun a2 ha2 hf => ?_)
    rw [rf_some ha2]
    refine k_bind hf (fun v3 hv3 hf => ?_)
    refine x_getN S hR lk_X0_425 (xgI_g hv3) dX0_refusedMany_28 ?_
    refine lv_iconst (v := -1) hx hb dX0_refusedMany_31 (by decide) ?_
    refine lv_icmp_ne (tgt := 39) hx hb dX0_refusedMany_32 (by decide) (fun c_32 => ?_) (fun c_32 => ?_)
    · replace hf := o_f hf c_32
      refine lv_iconst (v := 0) hx hb dX0_refusedMany_39 (by decide) ?_
      refine lv_iadd hx hb dX0_refusedMany_40 ?_
      refine k_bind hf (fun v4 hv4 hf => ?_)
      refine m_nmi hv4 ?_
      refine lv_istore_n (lv' := [(2, .int v4), (0, .ref (xo E)), (3, .int q.2)]) hx hb dX0_refusedMany_41 rfl hl (by decide) rfl (fun ls hl => ?_)
      refine lv_iinc (lv' := [(3, .int (q.2 + (1 : Int32))), (2, .int v4), (0, .ref (xo E))]) hx hb dX0_refusedMany_42 hl (k := 2) rfl (m_inc (by decide)) (by decide) rfl (fun ls hl => ?_)
      refine lv_goto (tgt := 13) hx hb dX0_refusedMany_45 (by decide) ?_
      exact hK _ (Option.some.inj hf).symm _ _ _ _ _ hR hS hn (lv_sub (l' := [(0, .ref (xo E)), (2, .int v4), (3, .int (q.2 + (1 : Int32)))]) hl [2, 1, 0] rfl)
    · replace hf := o_t hf c_32
      refine lv_iconst (v := 1) hx hb dX0_refusedMany_35 (by decide) ?_
      refine lv_goto (tgt := 40) hx hb dX0_refusedMany_36 (by decide) ?_
      refine lv_iadd hx hb dX0_refusedMany_40 ?_
      refine k_bind hf (fun v5 hv5 hf => ?_)
      refine m_nmi hv5 ?_
      refine lv_istore_n (lv' := [(2, .int v5), (0, .ref (xo E)), (3, .int q.2)]) hx hb dX0_refusedMany_41 rfl hl (by decide) rfl (fun ls hl => ?_)
      refine lv_iinc (lv' := [(3, .int (q.2 + (1 : Int32))), (2, .int v5), (0, .ref (xo E))]) hx hb dX0_refusedMany_42 hl (k := 2) rfl (m_inc (by decide)) (by decide) rfl (fun ls hl => ?_)
      refine lv_goto (tgt := 13) hx hb dX0_refusedMany_45 (by decide) ?_
      exact hK _ (Option.some.inj hf).symm _ _ _ _ _ hR hS hn (lv_sub (l' := [(0, .ref (xo E)), (2, .int v5), (3, .int (q.2 + (1 : Int32)))]) hl [2, 1, 0] rfl)
set_option maxHeartbeats 4000000 in
set_option maxRecDepth 100000 in
theorem wLX0_refusedMany_13 {l : Launch} {E : xG} {p : Program} {e : Env} {s : State} {m : MethodId} {args : Array Value} {below : List Frame} {meth : Method} {c : Code} {Q : State → Prop} {n0 s0 nf sf : Nat} {σ : xS} {q : Int32 × Int32} {res : Int32} (S : xSt E RX0 p m c cX0_refusedMany 4 s args meth (Option.some Jvm.ClassFile.FieldType.int)) (h : lpw (LX0_refusedMany_13 σ) q = some res) (hE48 : ∀ b, res = b → (∀ (H : Heap) (locs : List Loc) (cells slots : Nat) (ls : Array Slot), xR E σ H → va_S (xAA E) s.heap H locs → XN cells slots n0 s0 nf sf σ → lv_has ls 4 [(2, .int b)] → W p l e (xRm 0 0 (nf - n0) (sf - s0)) s m args below meth c H locs cells slots Q (F0 m 48 ls []))) : (∀ (H : Heap) (locs : List Loc) (cells slots : Nat) (ls : Array Slot), xR E σ H → va_S (xAA E) s.heap H locs → XN cells slots n0 s0 nf sf σ → lv_has ls 4 [(0, .ref (xo E)), (2, .int q.1), (3, .int q.2)] → W p l e (xRm 0 0 (nf - n0) (sf - s0)) s m args below meth c H locs cells slots Q (F0 m 13 ls [])) :=
  lpw_go _ (fun q => (∀ (H : Heap) (locs : List Loc) (cells slots : Nat) (ls : Array Slot), xR E σ H → va_S (xAA E) s.heap H locs → XN cells slots n0 s0 nf sf σ → lv_has ls 4 [(0, .ref (xo E)), (2, .int q.1), (3, .int q.2)] → W p l e (xRm 0 0 (nf - n0) (sf - s0)) s m args below meth c H locs cells slots Q (F0 m 13 ls []))) (fun b0 => (∀ b, b0 = b → (∀ (H : Heap) (locs : List Loc) (cells slots : Nat) (ls : Array Slot), xR E σ H → va_S (xAA E) s.heap H locs → XN cells slots n0 s0 nf sf σ → lv_has ls 4 [(2, .int b)] → W p l e (xRm 0 0 (nf - n0) (sf - s0)) s m args below meth c H locs cells slots Q (F0 m 48 ls [])))) (fun q x hf hK hX => wbLX0_refusedMany_13 S hf hK (fun b eb => (hX _ eb) b rfl)) q res h hE48
set_option maxHeartbeats 4000000 in
set_option maxRecDepth 100000 in
theorem wJX0_refusedMany_10 {l : Launch} {E : xG} {p : Program} {e : Env} {s : State} {m : MethodId} {args : Array Value} {below : List Frame} {meth : Method} {c : Code} {σ0 : xS} {z0 : Int32} {σ : xS} {res : Int32} (S : xSt E RX0 p m c cX0_refusedMany 4 s args meth (Option.some Jvm.ClassFile.FieldType.int)) (hf : JX0_refusedMany_10 z0 σ = some res) : ∀ (H : Heap) (locs : List Loc) (cells slots : Nat) (ls : Array Slot), xR E σ H → va_S (xAA E) s.heap H locs → XN cells slots (xnx σ0) (xns σ0) (xnx σ) (xns σ) σ → lv_has ls 4 [(0, .ref (xo E))] → W p l e (xRm 0 0 ((xnx σ) - (xnx σ0)) ((xns σ) - (xns σ0))) s m args below meth c H locs cells slots (MQ below (xQ E (some (.int res)) σ) args s (xnx σ - xnx σ0) (xns σ - xns σ0) (xAA E)) (F0 m 10 ls [.int z0]) := by
  replace hf : ((lpw (LX0_refusedMany_13 σ) (z0, (0 : Int32))).bind (fun b6 => some b6)) = some res := hf
  obtain ⟨hx, hb, hml, hown, hts⟩ := S.1.1
  intro H locs cells slots ls hR hS hn hl
  refine lv_istore_n (lv' := [(2, .int z0), (0, .ref (xo E))]) hx hb dX0_refusedMany_10 rfl hl (by decide) rfl (fun ls hl => ?_)
  refine lv_iconst (v := 0) hx hb dX0_refusedMany_11 (by decide) ?_
  refine lv_istore_n (lv' := [(3, .int (0 : Int32)), (2, .int z0), (0, .ref (xo E))]) hx hb dX0_refusedMany_12 rfl hl (by decide) rfl (fun ls hl => ?_)
  refine k_bind hf (fun b6 hb6 hf => ?_)
  refine wLX0_refusedMany_13 S hb6 ?_ _ _ _ _ _ hR hS hn (lv_sub (l' := [(0, .ref (xo E)), (2, .int z0), (3, .int (0 : Int32))]) hl [2, 1, 0] rfl)
  · intro b eb; subst eb; intro H locs cells slots ls hR hS hn hl
    refine lv_iload_n hx hb dX0_refusedMany_48 rfl (lv_at hl 0 rfl) ?_
    obtain rfl := Option.some.inj hf
    exact x_iret S hR hS hn rfl dX0_refusedMany_49
set_option maxHeartbeats 4000000 in
set_option maxRecDepth 100000 in
theorem met_X0_refusedMany {l : Launch} {E : xG} {x1 : Int32} {σ : xS} {res : Int32} (hf : fX0_refusedMany x1 σ = some res) : xMet l yX0_refusedMany cX0_refusedMany 4 (Option.some Jvm.ClassFile.FieldType.int) 0 0 E [.ref (xo E), .int x1] σ (some (.int res)) σ := by
  replace hf : (if x1 = (-1 : Int32) then JX0_refusedMany_10 (0 : Int32) σ else JX0_refusedMany_10 (-1 : Int32) σ) = some res := hf
  refine x_start (by decide) (Nat.le_of_ble_eq_true rfl) ?_
  intro p e s m args below meth c S hnm hR hS ls hl
  obtain ⟨hx, hb, hml, hown, hts⟩ := S.1.1
  have hl : lv_has ls 4 [(0, .ref (xo E)), (1, .int x1)] := hl
  have hn : XN 0 0 (xnx σ) (xns σ) (xnx σ) (xns σ) σ := ⟨Nat.zero_add _, Nat.zero_add _, (rl1.rf σ).1, (rl1.rf σ).2⟩
  refine lv_iload_n hx hb dX0_refusedMany_0 rfl (lv_at hl 1 rfl) ?_
  refine lv_iconst (v := -1) hx hb dX0_refusedMany_1 (by decide) ?_
  refine lv_icmp_ne (tgt := 9) hx hb dX0_refusedMany_2 (by decide) (fun c_2 => ?_) (fun c_2 => ?_)
  · replace hf := o_f hf c_2
    refine lv_iconst (v := -1) hx hb dX0_refusedMany_9 (by decide) ?_
    exact wJX0_refusedMany_10 S hf _ _ _ _ _ hR hS hn (lv_sub (l' := [(0, .ref (xo E))]) hl [0] rfl)
  · replace hf := o_t hf c_2
    refine lv_iconst (v := 0) hx hb dX0_refusedMany_5 (by decide) ?_
    refine lv_goto (tgt := 10) hx hb dX0_refusedMany_6 (by decide) ?_
    exact wJX0_refusedMany_10 S hf _ _ _ _ _ hR hS hn (lv_sub (l' := [(0, .ref (xo E))]) hl [0] rfl)
