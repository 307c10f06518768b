/-! the component, walked: X0_hangingRound J2_bitCount J1_numberOfTrailingZeros X0_leastOf X0_pairs X0_paired -/
theorem lk_X0_152 : ∀ q ∈ ([(1, 1)] : List (Nat × Nat)), wLkN RX0 152 q.1 q.2 := List.forall_mem_cons.mpr ⟨⟨RX1, TX1, 4, "LinesTouched", rfl, by decide, in_X1, q189⟩, fun _ h => absurd h List.not_mem_nil⟩
noncomputable def LX0_hangingRound_2 (y1 : Int32) (σ : xS) (q : Int32) : Option ((Int32) ⊕ ((Int32) ⊕ (Unit))) :=
  if (xN σ (0 : Fin 3) 2) ≤ q then some (Sum.inr (Sum.inr ())) else if (fX0_has y1 q) = (0 : Int32) then some (Sum.inl (q + (1 : Int32))) else (fX1_lines (0 : Fin 3) q y1 σ).bind (fun v1 => if v1 = (1 : Int32) then some (Sum.inr (Sum.inl q)) else some (Sum.inl (q + (1 : Int32))))
noncomputable def fX0_hangingRound (x1 : Int32) (x2 : Int32) (σ : xS) : Option (Option Nat × xS) :=
  (lpw (LX0_hangingRound_2 x1 σ) (0 : Int32)).bind ((fun e => Sum.elim (fun b3 => (xnw σ (.inr (2, [.int 0, .int 0, .int 0])) 3).bind (fun n4 => (xla 1 n4.2 11 b3).bind (fun v5 => (xla 1 n4.2 11 b3).bind (fun v6 => (fX2_init n4.1 (2 : Int32) ((ish (1 : Int32) b3) ||| (v5 &&& x1)) (v6 &&& x1) n4.2).bind (fun e7 => some ((some n4.1), e7)))))) (fun b8 => some (none, σ)) e))
theorem wi_X0_hangingRound : wInfV yX0_hangingRound cX0_hangingRound 4 (Option.some (Jvm.ClassFile.FieldType.object "LinesTouched$Round")) 2 := ⟨q250, qs2, q106, q251, (by decide +kernel), (by decide +kernel), (by decide +kernel)⟩
set_option maxHeartbeats 4000000 in
set_option maxRecDepth 100000 in
theorem r1_X0_hangingRound {x1 : Int32} {x2 : Int32} {σ : xS} {res : Option Nat × xS} (hf : fX0_hangingRound x1 x2 σ = some res) : rl1 σ res.2 := by
  replace hf : ((lpw (LX0_hangingRound_2 x1 σ) (0 : Int32)).bind ((fun e => Sum.elim (fun b3 => (xnw σ (.inr (2, [.int 0, .int 0, .int 0])) 3).bind (fun n4 => (xla 1 n4.2 11 b3).bind (fun v5 => (xla 1 n4.2 11 b3).bind (fun v6 => (fX2_init n4.1 (2 : Int32) ((ish (1 : Int32) b3) ||| (v5 &&& x1)) (v6 &&& x1) n4.2).bind (fun e7 => some ((some n4.1), e7)))))) (fun b8 => some (none, σ)) e))) = some res := hf
  refine k_bind hf (fun b2 hb2 hf => ?_)
  rcases b2 with b3 | b8
  · replace hf := o_l hf
    refine k_bind hf (fun n4 hn4 hf => ?_)
    refine rl1.tr (r1_nw hn4) ?_
    refine k_bind hf (fun v5 hv5 hf => ?_)
    refine k_bind hf (fun v6 hv6 hf => ?_)
    refine k_bind hf (fun e7 he7 hf => ?_)
    refine rl0.tr1 (r0_X2_init he7) ?_
    obtain rfl := Option.some.inj hf
    exact rl1.rf _
  · replace hf := o_r hf
    obtain rfl := Option.some.inj hf
    exact rl1.rf _
set_option maxHeartbeats 4000000 in
set_option maxRecDepth 100000 in
theorem wbLX0_hangingRound_2 {l : Launch} {E : xG} {p : Program} {e : Env} {s : State} {m : MethodId} {args : Array Value} {below : List Frame} {meth : Method} {c : Code} {Q : State → Prop} {n0 s0 nf sf : Nat} {y1 : Int32} {σ : xS} {q : Int32} {res : (Int32) ⊕ ((Int32) ⊕ (Unit))} (S : xSt E RX0 p m c cX0_hangingRound 4 s args meth (Option.some (Jvm.ClassFile.FieldType.object "LinesTouched$Round"))) (hf : LX0_hangingRound_2 y1 σ q = some res) (hK : ∀ q, res = Sum.inl q → (∀ (H : Heap) (locs : List Loc) (cells slots : Nat) (ls : Array Slot), xR E σ H → va_S (xAA E) s.heap H locs → XN cells slots n0 s0 nf sf σ → lv_has ls 4 [(0, .ref (xo E)), (1, .int y1), (3, .int q)] → W p l e (xRm 3 62 (nf - n0) (sf - s0)) s m args below meth c H locs cells slots Q (F0 m 2 ls []))) (hE34 : ∀ b, res = Sum.inr (Sum.inl b) → (∀ (H : Heap) (locs : List Loc) (cells slots : Nat) (ls : Array Slot), xR E σ H → va_S (xAA E) s.heap H locs → XN cells slots n0 s0 nf sf σ → lv_has ls 4 [(0, .ref (xo E)), (1, .int y1), (3, .int b)] → W p l e (xRm 3 62 (nf - n0) (sf - s0)) s m args below meth c H locs cells slots Q (F0 m 34 ls []))) (hE75 : ∀ b, res = Sum.inr (Sum.inr b) → (∀ (H : Heap) (locs : List Loc) (cells slots : Nat) (ls : Array Slot), xR E σ H → va_S (xAA E) s.heap H locs → XN cells slots n0 s0 nf sf σ → lv_has ls 4 [] → W p l e (xRm 3 62 (nf - n0) (sf - s0)) s m args below meth c H locs cells slots Q (F0 m 75 ls []))) : (∀ (H : Heap) (locs : List Loc) (cells slots : Nat) (ls : Array Slot), xR E σ H → va_S (xAA E) s.heap H locs → XN cells slots n0 s0 nf sf σ → lv_has ls 4 [(0, .ref (xo E)), (1, .int y1), (3, .int q)] → W p l e (xRm 3 62 (nf - n0) (sf - s0)) s m args below meth c H locs cells slots Q (F0 m 2 ls [])) := by
  replace hf : (if (xN σ (0 : Fin 3) 2) ≤ q then some (Sum.inr (Sum.inr ())) else if (fX0_has y1 q) = (0 : Int32) then some (Sum.inl (q + (1 : Int32))) else (fX1_lines (0 : Fin 3) q y1 σ).bind (fun v1 => if v1 = (1 : Int32) then some (Sum.inr (Sum.inl q)) else some (Sum.inl (q + (1 : Int32))))) = some res := hf
  obtain ⟨hx, hb, hml, hown, hts⟩ := S.1.1
  intro H locs cells slots ls hR hS hn hl
  refine lv_iload_n hx hb dX0_hangingRound_2 rfl (lv_at hl 2 rfl) ?_
  refine lv_aload_n hx hb dX0_hangingRound_3 rfl (lv_at hl 0 rfl) ?_
  refine x_oget (k := 0) (v := .ref (xnt E (0 : Fin 3))) S hR (lk_X0_10 _ List.mem_cons_self) rfl dX0_hangingRound_4 ?_
  refine x_ngetN (j := (0 : Fin 3)) (k := 2) (v := .int (xN σ (0 : Fin 3) 2)) S hR (lk_X0_115 _ List.mem_cons_self) rfl dX0_hangingRound_7 ?_
  refine lv_icmp_ge (tgt := 75) hx hb dX0_hangingRound_10 (by decide) (fun c_10 => ?_) (fun c_10 => ?_)
  · replace hf := o_t hf c_10
    exact hE75 _ (Option.some.inj hf).symm _ _ _ _ _ hR hS hn (lv_sub (l' := []) hl [] rfl)
  · replace hf := o_f hf c_10
    refine lv_iload_n hx hb dX0_hangingRound_13 rfl (lv_at hl 1 rfl) ?_
    refine lv_iload_n hx hb dX0_hangingRound_14 rfl (lv_at hl 2 rfl) ?_
    refine s_call (As := [.int y1, .int q]) (rest := []) S.1.1 (met_X0_has rfl) wi_X0_has q210 ⟨rfl, rfl⟩ ⟨Nat.le_of_ble_eq_true rfl, Nat.le_of_ble_eq_true rfl⟩ rfl hl.1 rfl (Nat.le_of_ble_eq_true rfl) dX0_hangingRound_15 hn.cs ?_
    refine lv_if_eq (tgt := 69) hx hb dX0_hangingRound_18 (by decide) (fun c_18 => ?_) (fun c_18 => ?_)
    · replace hf := o_t hf c_18
      refine lv_iinc (lv' := [(3, .int (q + (1 : Int32))), (0, .ref (xo E)), (1, .int y1)]) hx hb dX0_hangingRound_69 hl (k := 2) rfl (m_inc (by decide)) (by decide) rfl (fun ls hl => ?_)
      refine lv_goto (tgt := 2) hx hb dX0_hangingRound_72 (by decide) ?_
      exact hK _ (Option.some.inj hf).symm _ _ _ _ _ hR hS hn (lv_sub (l' := [(0, .ref (xo E)), (1, .int y1), (3, .int (q + (1 : Int32)))]) hl [1, 2, 0] rfl)
    · replace hf := o_f hf c_18
      refine lv_aload_n hx hb dX0_hangingRound_21 rfl (lv_at hl 0 rfl) ?_
      refine x_oget (k := 0) (v := .ref (xnt E (0 : Fin 3))) S hR (lk_X0_10 _ List.mem_cons_self) rfl dX0_hangingRound_22 ?_
      refine lv_iload_n hx hb dX0_hangingRound_25 rfl (lv_at hl 2 rfl) ?_
      refine lv_iload_n hx hb dX0_hangingRound_26 rfl (lv_at hl 1 rfl) ?_
      refine k_bind hf (fun v1 hv1 hf => ?_)
      refine x_call (C := RX1) (As := [.int q, .int y1]) (rest := []) S hR hS hn (met_X1_lines hv1) (rl1.rf _) (hn.b (rl0.rf _)) wi_X1_lines (xrc S.2 hR (ci := 1) rfl (Or.inr (Or.inl ⟨_, rfl, rfl⟩))) rfl q213 ⟨Nat.le_of_ble_eq_true rfl, Nat.le_of_ble_eq_true rfl⟩ rfl hl.1 rfl (Nat.le_of_ble_eq_true rfl) dX0_hangingRound_27 (fun H locs cells slots hR hS hn => ?_)
      refine lv_iconst (v := 1) hx hb dX0_hangingRound_30 (by decide) ?_
      refine lv_icmp_ne (tgt := 69) hx hb dX0_hangingRound_31 (by decide) (fun c_31 => ?_) (fun c_31 => ?_)
      · replace hf := o_f hf c_31
        refine lv_iinc (lv' := [(3, .int (q + (1 : Int32))), (0, .ref (xo E)), (1, .int y1)]) hx hb dX0_hangingRound_69 hl (k := 2) rfl (m_inc (by decide)) (by decide) rfl (fun ls hl => ?_)
        refine lv_goto (tgt := 2) hx hb dX0_hangingRound_72 (by decide) ?_
        exact hK _ (Option.some.inj hf).symm _ _ _ _ _ hR hS hn (lv_sub (l' := [(0, .ref (xo E)), (1, .int y1), (3, .int (q + (1 : Int32)))]) hl [1, 2, 0] rfl)
      · replace hf := o_t hf c_31
        exact hE34 _ (Option.some.inj hf).symm _ _ _ _ _ hR hS hn hl
set_option maxHeartbeats 4000000 in
set_option maxRecDepth 100000 in
theorem wLX0_hangingRound_2 {l : Launch} {E : xG} {p : Program} {e : Env} {s : State} {m : MethodId} {args : Array Value} {below : List Frame} {meth : Method} {c : Code} {Q : State → Prop} {n0 s0 nf sf : Nat} {y1 : Int32} {σ : xS} {q : Int32} {res : (Int32) ⊕ (Unit)} (S : xSt E RX0 p m c cX0_hangingRound 4 s args meth (Option.some (Jvm.ClassFile.FieldType.object "LinesTouched$Round"))) (h : lpw (LX0_hangingRound_2 y1 σ) q = some res) (hE34 : ∀ b, res = (Sum.inl b) → (∀ (H : Heap) (locs : List Loc) (cells slots : Nat) (ls : Array Slot), xR E σ H → va_S (xAA E) s.heap H locs → XN cells slots n0 s0 nf sf σ → lv_has ls 4 [(0, .ref (xo E)), (1, .int y1), (3, .int b)] → W p l e (xRm 3 62 (nf - n0) (sf - s0)) s m args below meth c H locs cells slots Q (F0 m 34 ls []))) (hE75 : ∀ b, res = (Sum.inr b) → (∀ (H : Heap) (locs : List Loc) (cells slots : Nat) (ls : Array Slot), xR E σ H → va_S (xAA E) s.heap H locs → XN cells slots n0 s0 nf sf σ → lv_has ls 4 [] → W p l e (xRm 3 62 (nf - n0) (sf - s0)) s m args below meth c H locs cells slots Q (F0 m 75 ls []))) : (∀ (H : Heap) (locs : List Loc) (cells slots : Nat) (ls : Array Slot), xR E σ H → va_S (xAA E) s.heap H locs → XN cells slots n0 s0 nf sf σ → lv_has ls 4 [(0, .ref (xo E)), (1, .int y1), (3, .int q)] → W p l e (xRm 3 62 (nf - n0) (sf - s0)) s m args below meth c H locs cells slots Q (F0 m 2 ls [])) :=
  lpw_go _ (fun q => (∀ (H : Heap) (locs : List Loc) (cells slots : Nat) (ls : Array Slot), xR E σ H → va_S (xAA E) s.heap H locs → XN cells slots n0 s0 nf sf σ → lv_has ls 4 [(0, .ref (xo E)), (1, .int y1), (3, .int q)] → W p l e (xRm 3 62 (nf - n0) (sf - s0)) s m args below meth c H locs cells slots Q (F0 m 2 ls []))) (fun b0 => (∀ b, b0 = (Sum.inl b) → (∀ (H : Heap) (locs : List Loc) (cells slots : Nat) (ls : Array Slot), xR E σ H → va_S (xAA E) s.heap H locs → XN cells slots n0 s0 nf sf σ → lv_has ls 4 [(0, .ref (xo E)), (1, .int y1), (3, .int b)] → W p l e (xRm 3 62 (nf - n0) (sf - s0)) s m args below meth c H locs cells slots Q (F0 m 34 ls []))) ∧ (∀ b, b0 = (Sum.inr b) → (∀ (H : Heap) (locs : List Loc) (cells slots : Nat) (ls : Array Slot), xR E σ H → va_S (xAA E) s.heap H locs → XN cells slots n0 s0 nf sf σ → lv_has ls 4 [] → W p l e (xRm 3 62 (nf - n0) (sf - s0)) s m args below meth c H locs cells slots Q (F0 m 75 ls [])))) (fun q x hf hK hX => wbLX0_hangingRound_2 S hf hK (fun b eb => (hX _ eb).1 b rfl) (fun b eb => (hX _ eb).2 b rfl)) q res h ⟨hE34, hE75⟩
set_option maxHeartbeats 4000000 in
set_option maxRecDepth 100000 in
theorem met_X0_hangingRound {l : Launch} {E : xG} {x1 : Int32} {x2 : Int32} {σ : xS} {res : Option Nat × xS} (hf : fX0_hangingRound x1 x2 σ = some res) : xMet l yX0_hangingRound cX0_hangingRound 4 (Option.some (Jvm.ClassFile.FieldType.object "LinesTouched$Round")) 3 62 E [.ref (xo E), .int x1, .int x2] σ (some (va_rf res.1)) res.2 := by
  replace hf : ((lpw (LX0_hangingRound_2 x1 σ) (0 : Int32)).bind ((fun e => Sum.elim (fun b3 => (xnw σ (.inr (2, [.int 0, .int 0, .int 0])) 3).bind (fun n4 => (xla 1 n4.2 11 b3).bind (fun v5 => (xla 1 n4.2 11 b3).bind (fun v6 => (fX2_init n4.1 (2 : Int32) ((ish (1 : Int32) b3) ||| (v5 &&& x1)) (v6 &&& x1) n4.2).bind (fun e7 => some ((some n4.1), e7)))))) (fun b8 => some (none, σ)) e))) = some res := hf
  refine x_start (by decide) (Nat.le_of_ble_eq_true rfl) ?_
  intro p e s m args below meth c S hnm hR hS ls hl
  obtain ⟨hx, hb, hml, hown, hts⟩ := S.1.1
  have hl : lv_has ls 4 [(0, .ref (xo E)), (1, .int x1), (2, .int x2)] := hl
  have hn : XN 0 0 (xnx σ) (xns σ) (xnx res.2) (xns res.2) σ := ⟨Nat.zero_add _, Nat.zero_add _, (r1_X0_hangingRound (x1 := x1) (x2 := x2) (σ := σ) hf).1, (r1_X0_hangingRound (x1 := x1) (x2 := x2) (σ := σ) hf).2⟩
  have hb9 : XB (xnx res.2) (xns res.2) res.2 := ⟨Nat.le_refl _, Nat.le_refl _⟩
  refine lv_iconst (v := 0) hx hb dX0_hangingRound_0 (by decide) ?_
  refine lv_istore_n (lv' := [(3, .int (0 : Int32)), (0, .ref (xo E)), (1, .int x1), (2, .int x2)]) hx hb dX0_hangingRound_1 rfl hl (by decide) rfl (fun ls hl => ?_)
  refine k_bind hf (fun b2 hb2 hf => ?_)
  refine wLX0_hangingRound_2 S hb2 ?_ ?_ _ _ _ _ _ hR hS hn (lv_sub (l' := [(0, .ref (xo E)), (1, .int x1), (3, .int (0 : Int32))]) hl [1, 2, 0] rfl)
  · intro b3 eb; subst eb; intro H locs cells slots ls hR hS hn hl
    replace hf := o_l hf
    refine k_bind hf (fun n4 hn4 hf => ?_)
    have hbn4 : XB (xnx res.2) (xns res.2) n4.2 := hb9.back (by
      refine k_bind hf (fun v5 hv5 hf => ?_)
      refine k_bind hf (fun v6 hv6 hf => ?_)
      refine k_bind hf (fun e7 he7 hf => ?_)
      refine rl0.tr1 (r0_X2_init he7) ?_
      obtain rfl := Option.some.inj hf
      exact rl1.rf _)
    refine x_newQ (T := TX2) (ty := tyX2) S hR hS hn hn4 hbn4 rfl in_X2 tyX2_ok (by decide +kernel) q226 q227 q110 dX0_hangingRound_34 (fun H cells slots hR hS hn => ?_)
    refine lv_dup hx hb dX0_hangingRound_37 rfl ?_
    refine lv_iconst (v := 2) hx hb dX0_hangingRound_38 (by decide) ?_
    refine lv_iconst (v := 1) hx hb dX0_hangingRound_39 (by decide) ?_
    refine lv_iload_n hx hb dX0_hangingRound_40 rfl (lv_at hl 2 rfl) ?_
    refine lv_ishl hx hb dX0_hangingRound_41 ?_
    refine lv_aload_n hx hb dX0_hangingRound_42 rfl (lv_at hl 0 rfl) ?_
    refine x_oget (k := 0) (v := .ref (xnt E (0 : Fin 3))) S hR (lk_X0_10 _ List.mem_cons_self) rfl dX0_hangingRound_43 ?_
    refine x_ngetN (j := (0 : Fin 3)) (k := 1) (v := .ref (xar E 11)) S hR (lk_X0_152 _ List.mem_cons_self) rfl dX0_hangingRound_46 ?_
    refine lv_iload_n hx hb dX0_hangingRound_49 rfl (lv_at hl 2 rfl) ?_
    refine k_bind hf (fun v5 hv5 hf => ?_)
    refine x_sl1 S hR hv5 dX0_hangingRound_50 ?_
    refine lv_iload_n hx hb dX0_hangingRound_51 rfl (lv_at hl 1 rfl) ?_
    refine lv_iand hx hb dX0_hangingRound_52 ?_
    refine lv_ior hx hb dX0_hangingRound_53 ?_
    refine lv_aload_n hx hb dX0_hangingRound_54 rfl (lv_at hl 0 rfl) ?_
    refine x_oget (k := 0) (v := .ref (xnt E (0 : Fin 3))) S hR (lk_X0_10 _ List.mem_cons_self) rfl dX0_hangingRound_55 ?_
    refine x_ngetN (j := (0 : Fin 3)) (k := 1) (v := .ref (xar E 11)) S hR (lk_X0_152 _ List.mem_cons_self) rfl dX0_hangingRound_58 ?_
    refine lv_iload_n hx hb dX0_hangingRound_61 rfl (lv_at hl 2 rfl) ?_
    refine k_bind hf (fun v6 hv6 hf => ?_)
    refine x_sl1 S hR hv6 dX0_hangingRound_62 ?_
    refine lv_iload_n hx hb dX0_hangingRound_63 rfl (lv_at hl 1 rfl) ?_
    refine lv_iand hx hb dX0_hangingRound_64 ?_
    refine k_bind hf (fun e7 he7 hf => ?_)
    refine x_callI (As := [.int (2 : Int32), .int ((ish (1 : Int32) b3) ||| (v5 &&& x1)), .int (v6 &&& x1)]) (rest := [.ref n4.1]) S hR hS hn (met_X2_init he7) (r0_X2_init he7).le (hn.b (r0_X2_init he7)) wi_X2_init q228 ⟨Nat.le_of_ble_eq_true rfl, Nat.le_of_ble_eq_true rfl⟩ rfl hl.1 rfl (Nat.le_of_ble_eq_true rfl) dX0_hangingRound_65 (fun H locs cells slots hR hS hn => ?_)
    obtain rfl := Option.some.inj hf
    exact x_aret (r := (some n4.1)) S (Or.inl ⟨_, rfl⟩) hR hS hn dX0_hangingRound_68
  · intro b8 eb; subst eb; intro H locs cells slots ls hR hS hn hl
    replace hf := o_r hf
    refine lv_null hx hb dX0_hangingRound_75 ?_
    obtain rfl := Option.some.inj hf
    exact x_aret (r := none) S (Or.inl ⟨_, rfl⟩) hR hS hn dX0_hangingRound_76


noncomputable def fJ2_bitCount (x0 : Int64) : Option (Int32) :=
  (some (x0 - ((lur x0 (1 : Int32)) &&& (6148914691236517205 : Int64)))).bind (fun v1 => (some ((v1 &&& (3689348814741910323 : Int64)) + ((lur v1 (2 : Int32)) &&& (3689348814741910323 : Int64)))).bind (fun v2 => (some ((v2 + (lur v2 (4 : Int32))) &&& (1085102592571150095 : Int64))).bind (fun v3 => (some (v3 + (lur v3 (8 : Int32)))).bind (fun v4 => (some (v4 + (lur v4 (16 : Int32)))).bind (fun v5 => (some (v5 + (lur v5 (32 : Int32)))).bind (fun v6 => some (v6.toInt32 &&& (127 : Int32))))))))
theorem wi_J2_bitCount : wInfS yJ2_bitCount cJ2_bitCount 2 (Option.some Jvm.ClassFile.FieldType.int) 1 := ⟨q269, q111, q270, (by decide +kernel), (by decide +kernel), (by decide +kernel)⟩
set_option maxHeartbeats 4000000 in
set_option maxRecDepth 100000 in
theorem met_J2_bitCount {l : Launch} {x0 : Int64} {res : Int32} (hf : fJ2_bitCount x0 = some res) : sMet l yJ2_bitCount cJ2_bitCount 2 (Option.some Jvm.ClassFile.FieldType.int) (mRm 0 0) [.long x0] (some (.int res)) := by
  replace hf : ((some (x0 - ((lur x0 (1 : Int32)) &&& (6148914691236517205 : Int64)))).bind (fun v1 => (some ((v1 &&& (3689348814741910323 : Int64)) + ((lur v1 (2 : Int32)) &&& (3689348814741910323 : Int64)))).bind (fun v2 => (some ((v2 + (lur v2 (4 : Int32))) &&& (1085102592571150095 : Int64))).bind (fun v3 => (some (v3 + (lur v3 (8 : Int32)))).bind (fun v4 => (some (v4 + (lur v4 (16 : Int32)))).bind (fun v5 => (some (v5 + (lur v5 (32 : Int32)))).bind (fun v6 => some (v6.toInt32 &&& (127 : Int32))))))))) = some res := hf
  refine s_start (by decide) (Nat.le_of_ble_eq_true rfl) ?_
  intro p e s m args below meth c S ls hl
  obtain ⟨hx, hb, hml, hown, hts⟩ := S.1
  have hl : lv_has ls 2 [(0, .long x0)] := hl
  refine lv_lload_n hx hb dJ2_bitCount_0 rfl (lv_at hl 0 rfl) ?_
  refine lv_lload_n hx hb dJ2_bitCount_1 rfl (lv_at hl 0 rfl) ?_
  refine lv_iconst (v := 1) hx hb dJ2_bitCount_2 (by decide) ?_
  refine lv_lushr (v := (lur x0 (1 : Int32))) hx hb dJ2_bitCount_3 rfl ?_
  refine lv_ldc2 hx hb hown (hts _ q271) dJ2_bitCount_4 ?_
  refine lv_land hx hb dJ2_bitCount_7 ?_
  refine lv_lsub hx hb dJ2_bitCount_8 ?_
  refine k_bind hf (fun v1 hv1 hf => ?_)
  refine m_nml hv1 ?_
  refine lv_lstore_n (lv' := [(0, .long v1)]) hx hb dJ2_bitCount_9 rfl hl (by decide) rfl (fun ls hl => ?_)
  refine lv_lload_n hx hb dJ2_bitCount_10 rfl (lv_at hl 0 rfl) ?_
  refine lv_ldc2 hx hb hown (hts _ q272) dJ2_bitCount_11 ?_
  refine lv_land hx hb dJ2_bitCount_14 ?_
  refine lv_lload_n hx hb dJ2_bitCount_15 rfl (lv_at hl 0 rfl) ?_
  refine lv_iconst (v := 2) hx hb dJ2_bitCount_16 (by decide) ?_
  refine lv_lushr (v := (lur v1 (2 : Int32))) hx hb dJ2_bitCount_17 rfl ?_
  refine lv_ldc2 hx hb hown (hts _ q272) dJ2_bitCount_18 ?_
  refine lv_land hx hb dJ2_bitCount_21 ?_
  refine lv_ladd hx hb dJ2_bitCount_22 ?_
  refine k_bind hf (fun v2 hv2 hf => ?_)
  refine m_nml hv2 ?_
  refine lv_lstore_n (lv' := [(0, .long v2)]) hx hb dJ2_bitCount_23 rfl hl (by decide) rfl (fun ls hl => ?_)
  refine lv_lload_n hx hb dJ2_bitCount_24 rfl (lv_at hl 0 rfl) ?_
  refine lv_lload_n hx hb dJ2_bitCount_25 rfl (lv_at hl 0 rfl) ?_
  refine lv_iconst (v := 4) hx hb dJ2_bitCount_26 (by decide) ?_
  refine lv_lushr (v := (lur v2 (4 : Int32))) hx hb dJ2_bitCount_27 rfl ?_
  refine lv_ladd hx hb dJ2_bitCount_28 ?_
  refine lv_ldc2 hx hb hown (hts _ q273) dJ2_bitCount_29 ?_
  refine lv_land hx hb dJ2_bitCount_32 ?_
  refine k_bind hf (fun v3 hv3 hf => ?_)
  refine m_nml hv3 ?_
  refine lv_lstore_n (lv' := [(0, .long v3)]) hx hb dJ2_bitCount_33 rfl hl (by decide) rfl (fun ls hl => ?_)
  refine lv_lload_n hx hb dJ2_bitCount_34 rfl (lv_at hl 0 rfl) ?_
  refine lv_lload_n hx hb dJ2_bitCount_35 rfl (lv_at hl 0 rfl) ?_
  refine lv_bipush (v := 8) hx hb dJ2_bitCount_36 (by decide) ?_
  refine lv_lushr (v := (lur v3 (8 : Int32))) hx hb dJ2_bitCount_38 rfl ?_
  refine lv_ladd hx hb dJ2_bitCount_39 ?_
  refine k_bind hf (fun v4 hv4 hf => ?_)
  refine m_nml hv4 ?_
  refine lv_lstore_n (lv' := [(0, .long v4)]) hx hb dJ2_bitCount_40 rfl hl (by decide) rfl (fun ls hl => ?_)
  refine lv_lload_n hx hb dJ2_bitCount_41 rfl (lv_at hl 0 rfl) ?_
  refine lv_lload_n hx hb dJ2_bitCount_42 rfl (lv_at hl 0 rfl) ?_
  refine lv_bipush (v := 16) hx hb dJ2_bitCount_43 (by decide) ?_
  refine lv_lushr (v := (lur v4 (16 : Int32))) hx hb dJ2_bitCount_45 rfl ?_
  refine lv_ladd hx hb dJ2_bitCount_46 ?_
  refine k_bind hf (fun v5 hv5 hf => ?_)
  refine m_nml hv5 ?_
  refine lv_lstore_n (lv' := [(0, .long v5)]) hx hb dJ2_bitCount_47 rfl hl (by decide) rfl (fun ls hl => ?_)
  refine lv_lload_n hx hb dJ2_bitCount_48 rfl (lv_at hl 0 rfl) ?_
  refine lv_lload_n hx hb dJ2_bitCount_49 rfl (lv_at hl 0 rfl) ?_
  refine lv_bipush (v := 32) hx hb dJ2_bitCount_50 (by decide) ?_
  refine lv_lushr (v := (lur v5 (32 : Int32))) hx hb dJ2_bitCount_52 rfl ?_
  refine lv_ladd hx hb dJ2_bitCount_53 ?_
  refine k_bind hf (fun v6 hv6 hf => ?_)
  refine m_nml hv6 ?_
  refine lv_lstore_n (lv' := [(0, .long v6)]) hx hb dJ2_bitCount_54 rfl hl (by decide) rfl (fun ls hl => ?_)
  refine lv_lload_n hx hb dJ2_bitCount_55 rfl (lv_at hl 0 rfl) ?_
  refine lv_l2i hx hb dJ2_bitCount_56 rfl ?_
  refine lv_bipush (v := 127) hx hb dJ2_bitCount_57 (by decide) ?_
  refine lv_iand hx hb dJ2_bitCount_59 ?_
  obtain rfl := Option.some.inj hf
  exact s_iret S rfl dJ2_bitCount_60


noncomputable def JJ1_numberOfTrailingZeros_62 (y0 : Int32) (y1 : Int32) : Option (Int32) :=
  if y0 ≤ (4 : Int32) then some (y1 + (iur y0 (1 : Int32))) else (some (iur y0 (2 : Int32))).bind (fun v2 => some ((y1 + (2 : Int32)) + (iur v2 (1 : Int32))))
noncomputable def JJ1_numberOfTrailingZeros_49 (y0 : Int32) (y1 : Int32) : Option (Int32) :=
  if y0 ≤ (16 : Int32) then JJ1_numberOfTrailingZeros_62 y0 y1 else (some (iur y0 (4 : Int32))).bind (fun v3 => JJ1_numberOfTrailingZeros_62 v3 (y1 + (4 : Int32)))
noncomputable def JJ1_numberOfTrailingZeros_34 (y0 : Int32) (y1 : Int32) : Option (Int32) :=
  if y0 ≤ (256 : Int32) then JJ1_numberOfTrailingZeros_49 y0 y1 else (some (iur y0 (8 : Int32))).bind (fun v4 => JJ1_numberOfTrailingZeros_49 v4 (y1 + (8 : Int32)))
noncomputable def fJ1_numberOfTrailingZeros (x0 : Int32) : Option (Int32) :=
  (some ((x0 ^^^ (-1 : Int32)) &&& (x0 - (1 : Int32)))).bind (fun v1 => if (0 : Int32) < v1 then if v1 ≤ (65536 : Int32) then JJ1_numberOfTrailingZeros_34 v1 (1 : Int32) else (some (iur v1 (16 : Int32))).bind (fun v5 => JJ1_numberOfTrailingZeros_34 v5 ((1 : Int32) + (16 : Int32))) else some (v1 &&& (32 : Int32)))
theorem wi_J1_numberOfTrailingZeros : wInfS yJ1_numberOfTrailingZeros cJ1_numberOfTrailingZeros 2 (Option.some Jvm.ClassFile.FieldType.int) 1 := ⟨q286, q109, q287, (by decide +kernel), (by decide +kernel), (by decide +kernel)⟩
set_option maxHeartbeats 4000000 in
set_option maxRecDepth 100000 in
theorem wJJ1_numberOfTrailingZeros_62 {l : Launch} {p : Program} {e : Env} {s : State} {m : MethodId} {args : Array Value} {below : List Frame} {meth : Method} {c : Code} {y0 : Int32} {y1 : Int32} {res : Int32} (S : wSt RJ1 p m c cJ1_numberOfTrailingZeros 2 s args meth (Option.some Jvm.ClassFile.FieldType.int)) (hf : JJ1_numberOfTrailingZeros_62 y0 y1 = some res) : ∀ (ls : Array Slot), lv_has ls 2 [(0, .int y0), (1, .int y1)] → W p l e (mRm 0 0) s m args below meth c s.heap [] 0 0 (MQ below (sQ (some (.int res))) args s 0 0 (fun _ => False)) (F0 m 62 ls []) := by
  replace hf : (if y0 ≤ (4 : Int32) then some (y1 + (iur y0 (1 : Int32))) else (some (iur y0 (2 : Int32))).bind (fun v2 => some ((y1 + (2 : Int32)) + (iur v2 (1 : Int32))))) = some res := hf
  obtain ⟨hx, hb, hml, hown, hts⟩ := S.1
  intro ls hl
  refine lv_iload_n hx hb dJ1_numberOfTrailingZeros_62 rfl (lv_at hl 0 rfl) ?_
  refine lv_iconst (v := 4) hx hb dJ1_numberOfTrailingZeros_63 (by decide) ?_
  refine lv_icmp_le (tgt := 74) hx hb dJ1_numberOfTrailingZeros_64 (by decide) (fun c_64 => ?_) (fun c_64 => ?_)
  · replace hf := o_t hf c_64
    refine lv_iload_n hx hb dJ1_numberOfTrailingZeros_74 rfl (lv_at hl 1 rfl) ?_
    refine lv_iload_n hx hb dJ1_numberOfTrailingZeros_75 rfl (lv_at hl 0 rfl) ?_
    refine lv_iconst (v := 1) hx hb dJ1_numberOfTrailingZeros_76 (by decide) ?_
    refine lv_iushr (v := (iur y0 (1 : Int32))) hx hb dJ1_numberOfTrailingZeros_77 rfl ?_
    refine lv_iadd hx hb dJ1_numberOfTrailingZeros_78 ?_
    obtain rfl := Option.some.inj hf
    exact s_iret S rfl dJ1_numberOfTrailingZeros_79
  · replace hf := o_f hf c_64
    refine lv_iinc (lv' := [(1, .int (y1 + (2 : Int32))), (0, .int y0)]) hx hb dJ1_numberOfTrailingZeros_67 hl (k := 1) rfl (m_inc (by decide)) (by decide) rfl (fun ls hl => ?_)
    refine lv_iload_n hx hb dJ1_numberOfTrailingZeros_70 rfl (lv_at hl 1 rfl) ?_
    refine lv_iconst (v := 2) hx hb dJ1_numberOfTrailingZeros_71 (by decide) ?_
    refine lv_iushr (v := (iur y0 (2 : Int32))) hx hb dJ1_numberOfTrailingZeros_72 rfl ?_
    refine k_bind hf (fun v2 hv2 hf => ?_)
    refine m_nmi hv2 ?_
    refine lv_istore_n (lv' := [(0, .int v2), (1, .int (y1 + (2 : Int32)))]) hx hb dJ1_numberOfTrailingZeros_73 rfl hl (by decide) rfl (fun ls hl => ?_)
    refine lv_iload_n hx hb dJ1_numberOfTrailingZeros_74 rfl (lv_at hl 1 rfl) ?_
    refine lv_iload_n hx hb dJ1_numberOfTrailingZeros_75 rfl (lv_at hl 0 rfl) ?_
    refine lv_iconst (v := 1) hx hb dJ1_numberOfTrailingZeros_76 (by decide) ?_
    refine lv_iushr (v := (iur v2 (1 : Int32))) hx hb dJ1_numberOfTrailingZeros_77 rfl ?_
    refine lv_iadd hx hb dJ1_numberOfTrailingZeros_78 ?_
    obtain rfl := Option.some.inj hf
    exact s_iret S rfl dJ1_numberOfTrailingZeros_79
set_option maxHeartbeats 4000000 in
set_option maxRecDepth 100000 in
theorem wJJ1_numberOfTrailingZeros_49 {l : Launch} {p : Program} {e : Env} {s : State} {m : MethodId} {args : Array Value} {below : List Frame} {meth : Method} {c : Code} {y0 : Int32} {y1 : Int32} {res : Int32} (S : wSt RJ1 p m c cJ1_numberOfTrailingZeros 2 s args meth (Option.some Jvm.ClassFile.FieldType.int)) (hf : JJ1_numberOfTrailingZeros_49 y0 y1 = some res) : ∀ (ls : Array Slot), lv_has ls 2 [(0, .int y0), (1, .int y1)] → W p l e (mRm 0 0) s m args below meth c s.heap [] 0 0 (MQ below (sQ (some (.int res))) args s 0 0 (fun _ => False)) (F0 m 49 ls []) := by
  replace hf : (if y0 ≤ (16 : Int32) then JJ1_numberOfTrailingZeros_62 y0 y1 else (some (iur y0 (4 : Int32))).bind (fun v3 => JJ1_numberOfTrailingZeros_62 v3 (y1 + (4 : Int32)))) = some res := hf
  obtain ⟨hx, hb, hml, hown, hts⟩ := S.1
  intro ls hl
  refine lv_iload_n hx hb dJ1_numberOfTrailingZeros_49 rfl (lv_at hl 0 rfl) ?_
  refine lv_bipush (v := 16) hx hb dJ1_numberOfTrailingZeros_50 (by decide) ?_
  refine lv_icmp_le (tgt := 62) hx hb dJ1_numberOfTrailingZeros_52 (by decide) (fun c_52 => ?_) (fun c_52 => ?_)
  · replace hf := o_t hf c_52
    exact wJJ1_numberOfTrailingZeros_62 S hf _ hl
  · replace hf := o_f hf c_52
    refine lv_iinc (lv' := [(1, .int (y1 + (4 : Int32))), (0, .int y0)]) hx hb dJ1_numberOfTrailingZeros_55 hl (k := 1) rfl (m_inc (by decide)) (by decide) rfl (fun ls hl => ?_)
    refine lv_iload_n hx hb dJ1_numberOfTrailingZeros_58 rfl (lv_at hl 1 rfl) ?_
    refine lv_iconst (v := 4) hx hb dJ1_numberOfTrailingZeros_59 (by decide) ?_
    refine lv_iushr (v := (iur y0 (4 : Int32))) hx hb dJ1_numberOfTrailingZeros_60 rfl ?_
    refine k_bind hf (fun v3 hv3 hf => ?_)
    refine m_nmi hv3 ?_
    refine lv_istore_n (lv' := [(0, .int v3), (1, .int (y1 + (4 : Int32)))]) hx hb dJ1_numberOfTrailingZeros_61 rfl hl (by decide) rfl (fun ls hl => ?_)
    exact wJJ1_numberOfTrailingZeros_62 S hf _ hl
set_option maxHeartbeats 4000000 in
set_option maxRecDepth 100000 in
theorem wJJ1_numberOfTrailingZeros_34 {l : Launch} {p : Program} {e : Env} {s : State} {m : MethodId} {args : Array Value} {below : List Frame} {meth : Method} {c : Code} {y0 : Int32} {y1 : Int32} {res : Int32} (S : wSt RJ1 p m c cJ1_numberOfTrailingZeros 2 s args meth (Option.some Jvm.ClassFile.FieldType.int)) (hf : JJ1_numberOfTrailingZeros_34 y0 y1 = some res) : ∀ (ls : Array Slot), lv_has ls 2 [(0, .int y0), (1, .int y1)] → W p l e (mRm 0 0) s m args below meth c s.heap [] 0 0 (MQ below (sQ (some (.int res))) args s 0 0 (fun _ => False)) (F0 m 34 ls []) := by
  replace hf : (if y0 ≤ (256 : Int32) then JJ1_numberOfTrailingZeros_49 y0 y1 else (some (iur y0 (8 : Int32))).bind (fun v4 => JJ1_numberOfTrailingZeros_49 v4 (y1 + (8 : Int32)))) = some res := hf
  obtain ⟨hx, hb, hml, hown, hts⟩ := S.1
  intro ls hl
  refine lv_iload_n hx hb dJ1_numberOfTrailingZeros_34 rfl (lv_at hl 0 rfl) ?_
  refine lv_sipush (v := 256) hx hb dJ1_numberOfTrailingZeros_35 (by decide) ?_
  refine lv_icmp_le (tgt := 49) hx hb dJ1_numberOfTrailingZeros_38 (by decide) (fun c_38 => ?_) (fun c_38 => ?_)
  · replace hf := o_t hf c_38
    exact wJJ1_numberOfTrailingZeros_49 S hf _ hl
  · replace hf := o_f hf c_38
    refine lv_iinc (lv' := [(1, .int (y1 + (8 : Int32))), (0, .int y0)]) hx hb dJ1_numberOfTrailingZeros_41 hl (k := 1) rfl (m_inc (by decide)) (by decide) rfl (fun ls hl => ?_)
    refine lv_iload_n hx hb dJ1_numberOfTrailingZeros_44 rfl (lv_at hl 1 rfl) ?_
    refine lv_bipush (v := 8) hx hb dJ1_numberOfTrailingZeros_45 (by decide) ?_
    refine lv_iushr (v := (iur y0 (8 : Int32))) hx hb dJ1_numberOfTrailingZeros_47 rfl ?_
    refine k_bind hf (fun v4 hv4 hf => ?_)
    refine m_nmi hv4 ?_
    refine lv_istore_n (lv' := [(0, .int v4), (1, .int (y1 + (8 : Int32)))]) hx hb dJ1_numberOfTrailingZeros_48 rfl hl (by decide) rfl (fun ls hl => ?_)
    exact wJJ1_numberOfTrailingZeros_49 S hf _ hl
set_option maxHeartbeats 4000000 in
set_option maxRecDepth 100000 in
theorem met_J1_numberOfTrailingZeros {l : Launch} {x0 : Int32} {res : Int32} (hf : fJ1_numberOfTrailingZeros x0 = some res) : sMet l yJ1_numberOfTrailingZeros cJ1_numberOfTrailingZeros 2 (Option.some Jvm.ClassFile.FieldType.int) (mRm 0 0) [.int x0] (some (.int res)) := by
  replace hf : ((some ((x0 ^^^ (-1 : Int32)) &&& (x0 - (1 : Int32)))).bind (fun v1 => if (0 : Int32) < v1 then if v1 ≤ (65536 : Int32) then JJ1_numberOfTrailingZeros_34 v1 (1 : Int32) else (some (iur v1 (16 : Int32))).bind (fun v5 => JJ1_numberOfTrailingZeros_34 v5 ((1 : Int32) + (16 : Int32))) else some (v1 &&& (32 : Int32)))) = some res := hf
  refine s_start (by decide) (Nat.le_of_ble_eq_true rfl) ?_
  intro p e s m args below meth c S ls hl
  obtain ⟨hx, hb, hml, hown, hts⟩ := S.1
  have hl : lv_has ls 2 [(0, .int x0)] := hl
  refine lv_iload_n hx hb dJ1_numberOfTrailingZeros_0 rfl (lv_at hl 0 rfl) ?_
  refine lv_iconst (v := -1) hx hb dJ1_numberOfTrailingZeros_1 (by decide) ?_
  refine lv_ixor hx hb dJ1_numberOfTrailingZeros_2 ?_
  refine lv_iload_n hx hb dJ1_numberOfTrailingZeros_3 rfl (lv_at hl 0 rfl) ?_
  refine lv_iconst (v := 1) hx hb dJ1_numberOfTrailingZeros_4 (by decide) ?_
  refine lv_isub hx hb dJ1_numberOfTrailingZeros_5 ?_
  refine lv_iand hx hb dJ1_numberOfTrailingZeros_6 ?_
  refine k_bind hf (fun v1 hv1 hf => ?_)
  refine m_nmi hv1 ?_
  refine lv_istore_n (lv' := [(0, .int v1)]) hx hb dJ1_numberOfTrailingZeros_7 rfl hl (by decide) rfl (fun ls hl => ?_)
  refine lv_iload_n hx hb dJ1_numberOfTrailingZeros_8 rfl (lv_at hl 0 rfl) ?_
  refine lv_if_gt (tgt := 17) hx hb dJ1_numberOfTrailingZeros_9 (by decide) (fun c_9 => ?_) (fun c_9 => ?_)
  · replace hf := o_t hf c_9
    refine lv_iconst (v := 1) hx hb dJ1_numberOfTrailingZeros_17 (by decide) ?_
    refine lv_istore_n (lv' := [(1, .int (1 : Int32)), (0, .int v1)]) hx hb dJ1_numberOfTrailingZeros_18 rfl hl (by decide) rfl (fun ls hl => ?_)
    refine lv_iload_n hx hb dJ1_numberOfTrailingZeros_19 rfl (lv_at hl 1 rfl) ?_
    refine lv_ldcw hx hb hown (hts _ q288) dJ1_numberOfTrailingZeros_20 ?_
    refine lv_icmp_le (tgt := 34) hx hb dJ1_numberOfTrailingZeros_23 (by decide) (fun c_23 => ?_) (fun c_23 => ?_)
    · replace hf := o_t hf c_23
      exact wJJ1_numberOfTrailingZeros_34 S hf _ (lv_sub (l' := [(0, .int v1), (1, .int (1 : Int32))]) hl [1, 0] rfl)
    · replace hf := o_f hf c_23
      refine lv_iinc (lv' := [(1, .int ((1 : Int32) + (16 : Int32))), (0, .int v1)]) hx hb dJ1_numberOfTrailingZeros_26 hl (k := 0) rfl (m_inc (by decide)) (by decide) rfl (fun ls hl => ?_)
      refine lv_iload_n hx hb dJ1_numberOfTrailingZeros_29 rfl (lv_at hl 1 rfl) ?_
      refine lv_bipush (v := 16) hx hb dJ1_numberOfTrailingZeros_30 (by decide) ?_
      refine lv_iushr (v := (iur v1 (16 : Int32))) hx hb dJ1_numberOfTrailingZeros_32 rfl ?_
      refine k_bind hf (fun v5 hv5 hf => ?_)
      refine m_nmi hv5 ?_
      refine lv_istore_n (lv' := [(0, .int v5), (1, .int ((1 : Int32) + (16 : Int32)))]) hx hb dJ1_numberOfTrailingZeros_33 rfl hl (by decide) rfl (fun ls hl => ?_)
      exact wJJ1_numberOfTrailingZeros_34 S hf _ hl
  · replace hf := o_f hf c_9
    refine lv_iload_n hx hb dJ1_numberOfTrailingZeros_12 rfl (lv_at hl 0 rfl) ?_
    refine lv_bipush (v := 32) hx hb dJ1_numberOfTrailingZeros_13 (by decide) ?_
    refine lv_iand hx hb dJ1_numberOfTrailingZeros_15 ?_
    obtain rfl := Option.some.inj hf
    exact s_iret S rfl dJ1_numberOfTrailingZeros_16


noncomputable def fX0_leastOf (x0 : Int32) : Option (Int32) :=
  (fJ1_numberOfTrailingZeros x0).bind (fun v1 => some v1)
theorem wi_X0_leastOf : wInfS yX0_leastOf cX0_leastOf 1 (Option.some Jvm.ClassFile.FieldType.int) 1 := ⟨q283, q106, q284, (by decide +kernel), (by decide +kernel), (by decide +kernel)⟩
set_option maxHeartbeats 4000000 in
set_option maxRecDepth 100000 in
theorem met_X0_leastOf {l : Launch} {x0 : Int32} {res : Int32} (hf : fX0_leastOf x0 = some res) : sMet l yX0_leastOf cX0_leastOf 1 (Option.some Jvm.ClassFile.FieldType.int) (mRm 1 21) [.int x0] (some (.int res)) := by
  replace hf : ((fJ1_numberOfTrailingZeros x0).bind (fun v1 => some v1)) = some res := hf
  refine s_start (by decide) (Nat.le_of_ble_eq_true rfl) ?_
  intro p e s m args below meth c S ls hl
  obtain ⟨hx, hb, hml, hown, hts⟩ := S.1
  have hl : lv_has ls 1 [(0, .int x0)] := hl
  refine lv_iload_n hx hb dX0_leastOf_0 rfl (lv_at hl 0 rfl) ?_
  refine k_bind hf (fun v1 hv1 hf => ?_)
  refine s_call (As := [.int x0]) (rest := []) S.1 (met_J1_numberOfTrailingZeros hv1) wi_J1_numberOfTrailingZeros q285 ⟨rfl, rfl⟩ ⟨Nat.le_of_ble_eq_true rfl, Nat.le_of_ble_eq_true rfl⟩ rfl hl.1 rfl (Nat.le_of_ble_eq_true rfl) dX0_leastOf_1 ⟨Nat.zero_le _, Nat.zero_le _⟩ ?_
  obtain rfl := Option.some.inj hf
  exact s_iret S rfl dX0_leastOf_4

theorem lk_X0_284 : ∀ q ∈ ([(0, 8)] : List (Nat × Nat)), wLk RX0 284 q.1 q.2 := List.forall_mem_cons.mpr ⟨⟨RX0, TX0, 32, "LinesTouched", rfl, by decide, in_X0, q386, Or.inl rfl⟩, fun _ h => absurd h List.not_mem_nil⟩
theorem pt_X0_284 : ∀ q ∈ ([(0, 8)] : List (Nat × Nat)), wLk RX0 284 q.1 q.2 ∧ wPt q.1 q.2 .int false RX0 := List.forall_mem_cons.mpr ⟨⟨⟨RX0, TX0, 32, "LinesTouched", rfl, by decide, in_X0, q386, Or.inl rfl⟩, ⟨RX0, TX0, 32, tyX0, rfl, by decide, rfl, by decide +kernel, nmX0, tyX0_ok, fun h => absurd h (by decide)⟩⟩, fun _ h => absurd h List.not_mem_nil⟩
noncomputable def LX0_pairs_0 (rec : (Int32) → (Int32) → xS → Option (Int32 × xS)) (y1 : Int32) (y2 : Int32) (q : xS) : Option ((xS) ⊕ ((Int32 × xS) ⊕ (xS))) :=
  (xla 1 q 11 y1).bind (fun v1 => if ((v1 &&& y2) &&& ((xI q 8) ^^^ (-1 : Int32))) = (0 : Int32) then some (Sum.inr (Sum.inr q)) else (xla 1 q 11 y1).bind (fun v2 => (fX0_leastOf ((v2 &&& y2) &&& ((xI q 8) ^^^ (-1 : Int32)))).bind (fun v3 => (xpI q 8 ((xI q 8) ||| (ish (1 : Int32) v3))).bind (fun σ4 => (xla 1 σ4 0 v3).bind (fun v5 => if v5 = (-1 : Int32) then some (Sum.inr (Sum.inl (v3, σ4))) else (xla 1 σ4 0 v3).bind (fun v6 => (rec v6 y2 σ4).bind (fun e7 => if e7.1 = (0 : Int32) then some (Sum.inl e7.2) else some (Sum.inr (Sum.inl (v3, e7.2))))))))))
noncomputable def BX0_pairs (rec : (Int32) → (Int32) → xS → Option (Int32 × xS)) (x1 : Int32) (x2 : Int32) (σ : xS) : Option (Int32 × xS) :=
  (lpw (LX0_pairs_0 rec x1 x2) σ).bind ((fun e => Sum.elim (fun b9 => (xsa 1 b9.2 0 b9.1 x1).bind (fun σ10 => some ((1 : Int32), σ10))) (fun b11 => some ((0 : Int32), b11)) e))
noncomputable def fX0_pairs : Nat → (Int32) → (Int32) → xS → Option (Int32 × xS)
  | 0 => fun _ _ _ => none
  | d + 1 => BX0_pairs (fX0_pairs d)
theorem wi_X0_pairs : wInfV yX0_pairs cX0_pairs 4 (Option.some Jvm.ClassFile.FieldType.boolean) 2 := ⟨q280, qs8, q106, q281, (by decide +kernel), (by decide +kernel), (by decide +kernel)⟩
set_option maxHeartbeats 4000000 in
set_option maxRecDepth 100000 in
theorem rsLX0_pairs_0 {rec : (Int32) → (Int32) → xS → Option (Int32 × xS)} {y1 : Int32} {y2 : Int32} {q : xS} {res : (xS) ⊕ ((Int32 × xS) ⊕ (xS))} (hrel : ∀ {x1 : Int32} {x2 : Int32} {σ : xS} {res : Int32 × xS}, rec x1 x2 σ = some res → rl0 σ res.2) (hf : LX0_pairs_0 rec y1 y2 q = some res) : rl0 q (Sum.elim (fun q => q) (fun z => Sum.elim (fun b => b.2) (fun b => b) z) res) := by
  replace hf : ((xla 1 q 11 y1).bind (fun v1 => if ((v1 &&& y2) &&& ((xI q 8) ^^^ (-1 : Int32))) = (0 : Int32) then some (Sum.inr (Sum.inr q)) else (xla 1 q 11 y1).bind (fun v2 => (fX0_leastOf ((v2 &&& y2) &&& ((xI q 8) ^^^ (-1 : Int32)))).bind (fun v3 => (xpI q 8 ((xI q 8) ||| (ish (1 : Int32) v3))).bind (fun σ4 => (xla 1 σ4 0 v3).bind (fun v5 => if v5 = (-1 : Int32) then some (Sum.inr (Sum.inl (v3, σ4))) else (xla 1 σ4 0 v3).bind (fun v6 => (rec v6 y2 σ4).bind (fun e7 => if e7.1 = (0 : Int32) then some (Sum.inl e7.2) else some (Sum.inr (Sum.inl (v3, e7.2))))))))))) = some res := hf
  refine k_bind hf (fun v1 hv1 hf => ?_)
  by_cases c0 : ((v1 &&& y2) &&& ((xI q 8) ^^^ (-1 : Int32))) = (0 : Int32)
  · replace hf := o_t hf c0
    obtain rfl := Option.some.inj hf
    exact rl0.rf _
  · replace hf := o_f hf c0
    refine k_bind hf (fun v2 hv2 hf => ?_)
    refine k_bind hf (fun v3 hv3 hf => ?_)
    refine k_bind hf (fun σ4 hσ4 hf => ?_)
    refine rl0.tr (r0_pI hσ4) ?_
    refine k_bind hf (fun v5 hv5 hf => ?_)
    by_cases c0 : v5 = (-1 : Int32)
    · replace hf := o_t hf c0
      obtain rfl := Option.some.inj hf
      exact rl0.rf _
    · replace hf := o_f hf c0
      refine k_bind hf (fun v6 hv6 hf => ?_)
      refine k_bind hf (fun e7 he7 hf => ?_)
      refine rl0.tr (hrel he7) ?_
      by_cases c0 : e7.1 = (0 : Int32)
      · replace hf := o_t hf c0
        obtain rfl := Option.some.inj hf
        exact rl0.rf _
      · replace hf := o_f hf c0
        obtain rfl := Option.some.inj hf
        exact rl0.rf _
set_option maxHeartbeats 4000000 in
set_option maxRecDepth 100000 in
theorem rLX0_pairs_0 {rec : (Int32) → (Int32) → xS → Option (Int32 × xS)} {y1 : Int32} {y2 : Int32} {q : xS} {b : (Int32 × xS) ⊕ (xS)} (hrel : ∀ {x1 : Int32} {x2 : Int32} {σ : xS} {res : Int32 × xS}, rec x1 x2 σ = some res → rl0 σ res.2) (h : lpw (LX0_pairs_0 rec y1 y2) q = some b) : rl0 q ((fun z => Sum.elim (fun b => b.2) (fun b => b) z) b) :=
  lpw_rel _ (fun q => q) (fun z => Sum.elim (fun b => b.2) (fun b => b) z) rl0 rl0.tr (fun _ _ hf => rsLX0_pairs_0 hrel hf) h
set_option maxHeartbeats 4000000 in
set_option maxRecDepth 100000 in
theorem rB_X0_pairs {rec : (Int32) → (Int32) → xS → Option (Int32 × xS)} {x1 : Int32} {x2 : Int32} {σ : xS} {res : Int32 × xS} (hrel : ∀ {x1 : Int32} {x2 : Int32} {σ : xS} {res : Int32 × xS}, rec x1 x2 σ = some res → rl0 σ res.2) (hf : BX0_pairs rec x1 x2 σ = some res) : rl0 σ res.2 := by
  replace hf : ((lpw (LX0_pairs_0 rec x1 x2) σ).bind ((fun e => Sum.elim (fun b9 => (xsa 1 b9.2 0 b9.1 x1).bind (fun σ10 => some ((1 : Int32), σ10))) (fun b11 => some ((0 : Int32), b11)) e))) = some res := hf
  refine k_bind hf (fun b8 hb8 hf => ?_)
  refine rl0.tr (rLX0_pairs_0 hrel hb8) ?_
  rcases b8 with b9 | b11
  · replace hf := o_l hf
    refine k_bind hf (fun σ10 hσ10 hf => ?_)
    refine rl0.tr (r0_sa hσ10) ?_
    obtain rfl := Option.some.inj hf
    exact rl0.rf _
  · replace hf := o_r hf
    obtain rfl := Option.some.inj hf
    exact rl0.rf _
set_option maxHeartbeats 4000000 in
set_option maxRecDepth 100000 in
theorem r0_X0_pairs : ∀ {d : Nat} {x1 : Int32} {x2 : Int32} {σ : xS} {res : Int32 × xS}, fX0_pairs d x1 x2 σ = some res → rl0 σ res.2 := by
  intro d
  induction d with
  | zero => intro  x1 x2 σ res hf; cases hf
  | succ d ih => intro  x1 x2 σ res hf; exact rB_X0_pairs (fun h => ih h) hf
set_option maxHeartbeats 4000000 in
set_option maxRecDepth 100000 in
theorem wbLX0_pairs_0 {l : Launch} {E : xG} {p : Program} {e : Env} {s : State} {m : MethodId} {args : Array Value} {below : List Frame} {meth : Method} {c : Code} {d : Nat} {rec : (Int32) → (Int32) → xS → Option (Int32 × xS)} {Q : State → Prop} {n0 s0 nf sf : Nat} {y1 : Int32} {y2 : Int32} {q : xS} {res : (xS) ⊕ ((Int32 × xS) ⊕ (xS))} (S : xSt E RX0 p m c cX0_pairs 4 s args meth (Option.some Jvm.ClassFile.FieldType.boolean)) (hrec : ∀ {x1 : Int32} {x2 : Int32} {σ : xS} {res : Int32 × xS}, rec x1 x2 σ = some res → xMet l yX0_pairs cX0_pairs 4 (Option.some Jvm.ClassFile.FieldType.boolean) (d + 2) (23 * (d) + 41) E [.ref (xo E), .int x1, .int x2] σ (some (.int res.1)) res.2) (hrel : ∀ {x1 : Int32} {x2 : Int32} {σ : xS} {res : Int32 × xS}, rec x1 x2 σ = some res → rl0 σ res.2) (hf : LX0_pairs_0 rec y1 y2 q = some res) (hK : ∀ q, res = Sum.inl q → (∀ (H : Heap) (locs : List Loc) (cells slots : Nat) (ls : Array Slot), xR E q H → va_S (xAA E) s.heap H locs → XN cells slots n0 s0 nf sf q → lv_has ls 4 [(0, .ref (xo E)), (1, .int y1), (2, .int y2)] → W p l e (xRm (d + 1 + 2) (23 * (d + 1) + 41) (nf - n0) (sf - s0)) s m args below meth c H locs cells slots Q (F0 m 0 ls []))) (hE79 : ∀ b, res = Sum.inr (Sum.inl b) → (∀ (H : Heap) (locs : List Loc) (cells slots : Nat) (ls : Array Slot), xR E b.2 H → va_S (xAA E) s.heap H locs → XN cells slots n0 s0 nf sf b.2 → lv_has ls 4 [(0, .ref (xo E)), (1, .int y1), (3, .int b.1)] → W p l e (xRm (d + 1 + 2) (23 * (d + 1) + 41) (nf - n0) (sf - s0)) s m args below meth c H locs cells slots Q (F0 m 79 ls []))) (hE91 : ∀ b, res = Sum.inr (Sum.inr b) → (∀ (H : Heap) (locs : List Loc) (cells slots : Nat) (ls : Array Slot), xR E b H → va_S (xAA E) s.heap H locs → XN cells slots n0 s0 nf sf b → lv_has ls 4 [] → W p l e (xRm (d + 1 + 2) (23 * (d + 1) + 41) (nf - n0) (sf - s0)) s m args below meth c H locs cells slots Q (F0 m 91 ls []))) : (∀ (H : Heap) (locs : List Loc) (cells slots : Nat) (ls : Array Slot), xR E q H → va_S (xAA E) s.heap H locs → XN cells slots n0 s0 nf sf q → lv_has ls 4 [(0, .ref (xo E)), (1, .int y1), (2, .int y2)] → W p l e (xRm (d + 1 + 2) (23 * (d + 1) + 41) (nf - n0) (sf - s0)) s m args below meth c H locs cells slots Q (F0 m 0 ls [])) := by
  replace hf : ((xla 1 q 11 y1).bind (fun v1 => if ((v1 &&& y2) &&& ((xI q 8) ^^^ (-1 : Int32))) = (0 : Int32) then some (Sum.inr (Sum.inr q)) else (xla 1 q 11 y1).bind (fun v2 => (fX0_leastOf ((v2 &&& y2) &&& ((xI q 8) ^^^ (-1 : Int32)))).bind (fun v3 => (xpI q 8 ((xI q 8) ||| (ish (1 : Int32) v3))).bind (fun σ4 => (xla 1 σ4 0 v3).bind (fun v5 => if v5 = (-1 : Int32) then some (Sum.inr (Sum.inl (v3, σ4))) else (xla 1 σ4 0 v3).bind (fun v6 => (rec v6 y2 σ4).bind (fun e7 => if e7.1 = (0 : Int32) then some (Sum.inl e7.2) else some (Sum.inr (Sum.inl (v3, e7.2))))))))))) = some res := hf
  obtain ⟨hx, hb, hml, hown, hts⟩ := S.1.1
  intro H locs cells slots ls hR hS hn hl
  refine lv_aload_n hx hb dX0_pairs_0 rfl (lv_at hl 0 rfl) ?_
  refine x_oget (k := 0) (v := .ref (xnt E (0 : Fin 3))) S hR (lk_X0_10 _ List.mem_cons_self) rfl dX0_pairs_1 ?_
  refine x_ngetN (j := (0 : Fin 3)) (k := 1) (v := .ref (xar E 11)) S hR (lk_X0_152 _ List.mem_cons_self) rfl dX0_pairs_4 ?_
  refine lv_iload_n hx hb dX0_pairs_7 rfl (lv_at hl 1 rfl) ?_
  refine k_bind hf (fun v1 hv1 hf => ?_)
  refine x_sl1 S hR hv1 dX0_pairs_8 ?_
  refine lv_iload_n hx hb dX0_pairs_9 rfl (lv_at hl 2 rfl) ?_
  refine lv_iand hx hb dX0_pairs_10 ?_
  refine lv_aload_n hx hb dX0_pairs_11 rfl (lv_at hl 0 rfl) ?_
  refine x_oget (k := 8) (v := .int (xI q 8)) S hR (lk_X0_284 _ List.mem_cons_self) rfl dX0_pairs_12 ?_
  refine lv_iconst (v := -1) hx hb dX0_pairs_15 (by decide) ?_
  refine lv_ixor hx hb dX0_pairs_16 ?_
  refine lv_iand hx hb dX0_pairs_17 ?_
  refine lv_if_eq (tgt := 91) hx hb dX0_pairs_18 (by decide) (fun c_18 => ?_) (fun c_18 => ?_)
  · replace hf := o_t hf c_18
    exact hE91 _ (Option.some.inj hf).symm _ _ _ _ _ hR hS hn (lv_sub (l' := []) hl [] rfl)
  · replace hf := o_f hf c_18
    refine lv_aload_n hx hb dX0_pairs_21 rfl (lv_at hl 0 rfl) ?_
    refine x_oget (k := 0) (v := .ref (xnt E (0 : Fin 3))) S hR (lk_X0_10 _ List.mem_cons_self) rfl dX0_pairs_22 ?_
    refine x_ngetN (j := (0 : Fin 3)) (k := 1) (v := .ref (xar E 11)) S hR (lk_X0_152 _ List.mem_cons_self) rfl dX0_pairs_25 ?_
    refine lv_iload_n hx hb dX0_pairs_28 rfl (lv_at hl 1 rfl) ?_
    refine k_bind hf (fun v2 hv2 hf => ?_)
    refine x_sl1 S hR hv2 dX0_pairs_29 ?_
    refine lv_iload_n hx hb dX0_pairs_30 rfl (lv_at hl 2 rfl) ?_
    refine lv_iand hx hb dX0_pairs_31 ?_
    refine lv_aload_n hx hb dX0_pairs_32 rfl (lv_at hl 0 rfl) ?_
    refine x_oget (k := 8) (v := .int (xI q 8)) S hR (lk_X0_284 _ List.mem_cons_self) rfl dX0_pairs_33 ?_
    refine lv_iconst (v := -1) hx hb dX0_pairs_36 (by decide) ?_
    refine lv_ixor hx hb dX0_pairs_37 ?_
    refine lv_iand hx hb dX0_pairs_38 ?_
    refine k_bind hf (fun v3 hv3 hf => ?_)
    refine s_call (As := [.int ((v2 &&& y2) &&& ((xI q 8) ^^^ (-1 : Int32)))]) (rest := []) S.1.1 (met_X0_leastOf hv3) wi_X0_leastOf q282 ⟨rfl, rfl⟩ ⟨by show _ + 1 ≤ _; simp only [mRm, xRm]; omega, by simp only [mRm, xRm]; omega⟩ rfl hl.1 rfl (Nat.le_of_ble_eq_true rfl) dX0_pairs_39 hn.cs ?_
    refine lv_istore_n (lv' := [(3, .int v3), (0, .ref (xo E)), (1, .int y1), (2, .int y2)]) hx hb dX0_pairs_42 rfl hl (by decide) rfl (fun ls hl => ?_)
    refine lv_aload_n hx hb dX0_pairs_43 rfl (lv_at hl 1 rfl) ?_
    refine lv_dup hx hb dX0_pairs_44 rfl ?_
    refine x_oget (k := 8) (v := .int (xI q 8)) S hR (lk_X0_284 _ List.mem_cons_self) rfl dX0_pairs_45 ?_
    refine lv_iconst (v := 1) hx hb dX0_pairs_48 (by decide) ?_
    refine lv_iload_n hx hb dX0_pairs_49 rfl (lv_at hl 0 rfl) ?_
    refine lv_ishl hx hb dX0_pairs_50 ?_
    refine lv_ior hx hb dX0_pairs_51 ?_
    refine k_bind hf (fun σ4 hσ4 hf => ?_)
    refine x_oput (k := 8) S hR hS hσ4 rfl (pt_X0_284 _ List.mem_cons_self).1 (pt_X0_284 _ List.mem_cons_self).2 rfl rfl (by decide) dX0_pairs_52 (fun H locs hR hS => ?_)
    replace hn := hn.to (r0_pI hσ4)
    refine lv_aload_n hx hb dX0_pairs_55 rfl (lv_at hl 1 rfl) ?_
    refine x_oget (k := 7) (v := .ref (xar E 0)) S hR (lk_X0_22 _ List.mem_cons_self) rfl dX0_pairs_56 ?_
    refine lv_iload_n hx hb dX0_pairs_59 rfl (lv_at hl 0 rfl) ?_
    refine k_bind hf (fun v5 hv5 hf => ?_)
    refine x_sl1 S hR hv5 dX0_pairs_60 ?_
    refine lv_iconst (v := -1) hx hb dX0_pairs_61 (by decide) ?_
    refine lv_icmp_eq (tgt := 79) hx hb dX0_pairs_62 (by decide) (fun c_62 => ?_) (fun c_62 => ?_)
    · replace hf := o_t hf c_62
      exact hE79 _ (Option.some.inj hf).symm _ _ _ _ _ hR hS hn (lv_sub (l' := [(0, .ref (xo E)), (1, .int y1), (3, .int v3)]) hl [1, 2, 0] rfl)
    · replace hf := o_f hf c_62
      refine lv_aload_n hx hb dX0_pairs_65 rfl (lv_at hl 1 rfl) ?_
      refine lv_aload_n hx hb dX0_pairs_66 rfl (lv_at hl 1 rfl) ?_
      refine x_oget (k := 7) (v := .ref (xar E 0)) S hR (lk_X0_22 _ List.mem_cons_self) rfl dX0_pairs_67 ?_
      refine lv_iload_n hx hb dX0_pairs_70 rfl (lv_at hl 0 rfl) ?_
      refine k_bind hf (fun v6 hv6 hf => ?_)
      refine x_sl1 S hR hv6 dX0_pairs_71 ?_
      refine lv_iload_n hx hb dX0_pairs_72 rfl (lv_at hl 3 rfl) ?_
      refine k_bind hf (fun e7 he7 hf => ?_)
      refine x_call (C := RX0) (As := [.int v6, .int y2]) (rest := []) S hR hS hn (hrec he7) (hrel he7).le (hn.b (hrel he7)) wi_X0_pairs (xrc S.2 hR (ci := 0) rfl (Or.inl ⟨rfl, rfl⟩)) rfl q278 ⟨by omega, by omega⟩ rfl hl.1 rfl (Nat.le_of_ble_eq_true rfl) dX0_pairs_73 (fun H locs cells slots hR hS hn => ?_)
      refine lv_if_eq (tgt := 88) hx hb dX0_pairs_76 (by decide) (fun c_76 => ?_) (fun c_76 => ?_)
      · replace hf := o_t hf c_76
        refine lv_goto (tgt := 0) hx hb dX0_pairs_88 (by decide) ?_
        exact hK _ (Option.some.inj hf).symm _ _ _ _ _ hR hS hn (lv_sub (l' := [(0, .ref (xo E)), (1, .int y1), (2, .int y2)]) hl [1, 2, 3] rfl)
      · replace hf := o_f hf c_76
        exact hE79 _ (Option.some.inj hf).symm _ _ _ _ _ hR hS hn (lv_sub (l' := [(0, .ref (xo E)), (1, .int y1), (3, .int v3)]) hl [1, 2, 0] rfl)
set_option maxHeartbeats 4000000 in
set_option maxRecDepth 100000 in
theorem wLX0_pairs_0 {l : Launch} {E : xG} {p : Program} {e : Env} {s : State} {m : MethodId} {args : Array Value} {below : List Frame} {meth : Method} {c : Code} {d : Nat} {rec : (Int32) → (Int32) → xS → Option (Int32 × xS)} {Q : State → Prop} {n0 s0 nf sf : Nat} {y1 : Int32} {y2 : Int32} {q : xS} {res : (Int32 × xS) ⊕ (xS)} (S : xSt E RX0 p m c cX0_pairs 4 s args meth (Option.some Jvm.ClassFile.FieldType.boolean)) (hrec : ∀ {x1 : Int32} {x2 : Int32} {σ : xS} {res : Int32 × xS}, rec x1 x2 σ = some res → xMet l yX0_pairs cX0_pairs 4 (Option.some Jvm.ClassFile.FieldType.boolean) (d + 2) (23 * (d) + 41) E [.ref (xo E), .int x1, .int x2] σ (some (.int res.1)) res.2) (hrel : ∀ {x1 : Int32} {x2 : Int32} {σ : xS} {res : Int32 × xS}, rec x1 x2 σ = some res → rl0 σ res.2) (h : lpw (LX0_pairs_0 rec y1 y2) q = some res) (hE79 : ∀ b, res = (Sum.inl b) → (∀ (H : Heap) (locs : List Loc) (cells slots : Nat) (ls : Array Slot), xR E b.2 H → va_S (xAA E) s.heap H locs → XN cells slots n0 s0 nf sf b.2 → lv_has ls 4 [(0, .ref (xo E)), (1, .int y1), (3, .int b.1)] → W p l e (xRm (d + 1 + 2) (23 * (d + 1) + 41) (nf - n0) (sf - s0)) s m args below meth c H locs cells slots Q (F0 m 79 ls []))) (hE91 : ∀ b, res = (Sum.inr b) → (∀ (H : Heap) (locs : List Loc) (cells slots : Nat) (ls : Array Slot), xR E b H → va_S (xAA E) s.heap H locs → XN cells slots n0 s0 nf sf b → lv_has ls 4 [] → W p l e (xRm (d + 1 + 2) (23 * (d + 1) + 41) (nf - n0) (sf - s0)) s m args below meth c H locs cells slots Q (F0 m 91 ls []))) : (∀ (H : Heap) (locs : List Loc) (cells slots : Nat) (ls : Array Slot), xR E q H → va_S (xAA E) s.heap H locs → XN cells slots n0 s0 nf sf q → lv_has ls 4 [(0, .ref (xo E)), (1, .int y1), (2, .int y2)] → W p l e (xRm (d + 1 + 2) (23 * (d + 1) + 41) (nf - n0) (sf - s0)) s m args below meth c H locs cells slots Q (F0 m 0 ls [])) :=
  lpw_go _ (fun q => (∀ (H : Heap) (locs : List Loc) (cells slots : Nat) (ls : Array Slot), xR E q H → va_S (xAA E) s.heap H locs → XN cells slots n0 s0 nf sf q → lv_has ls 4 [(0, .ref (xo E)), (1, .int y1), (2, .int y2)] → W p l e (xRm (d + 1 + 2) (23 * (d + 1) + 41) (nf - n0) (sf - s0)) s m args below meth c H locs cells slots Q (F0 m 0 ls []))) (fun b0 => (∀ b, b0 = (Sum.inl b) → (∀ (H : Heap) (locs : List Loc) (cells slots : Nat) (ls : Array Slot), xR E b.2 H → va_S (xAA E) s.heap H locs → XN cells slots n0 s0 nf sf b.2 → lv_has ls 4 [(0, .ref (xo E)), (1, .int y1), (3, .int b.1)] → W p l e (xRm (d + 1 + 2) (23 * (d + 1) + 41) (nf - n0) (sf - s0)) s m args below meth c H locs cells slots Q (F0 m 79 ls []))) ∧ (∀ b, b0 = (Sum.inr b) → (∀ (H : Heap) (locs : List Loc) (cells slots : Nat) (ls : Array Slot), xR E b H → va_S (xAA E) s.heap H locs → XN cells slots n0 s0 nf sf b → lv_has ls 4 [] → W p l e (xRm (d + 1 + 2) (23 * (d + 1) + 41) (nf - n0) (sf - s0)) s m args below meth c H locs cells slots Q (F0 m 91 ls [])))) (fun q x hf hK hX => wbLX0_pairs_0 S hrec hrel hf hK (fun b eb => (hX _ eb).1 b rfl) (fun b eb => (hX _ eb).2 b rfl)) q res h ⟨hE79, hE91⟩
set_option maxHeartbeats 4000000 in
set_option maxRecDepth 100000 in
theorem wBX0_pairs {l : Launch} {E : xG} {d : Nat} {rec : (Int32) → (Int32) → xS → Option (Int32 × xS)} {x1 : Int32} {x2 : Int32} {σ : xS} {res : Int32 × xS} (hrec : ∀ {x1 : Int32} {x2 : Int32} {σ : xS} {res : Int32 × xS}, rec x1 x2 σ = some res → xMet l yX0_pairs cX0_pairs 4 (Option.some Jvm.ClassFile.FieldType.boolean) (d + 2) (23 * (d) + 41) E [.ref (xo E), .int x1, .int x2] σ (some (.int res.1)) res.2) (hrel : ∀ {x1 : Int32} {x2 : Int32} {σ : xS} {res : Int32 × xS}, rec x1 x2 σ = some res → rl0 σ res.2) (hf : BX0_pairs rec x1 x2 σ = some res) : xMet l yX0_pairs cX0_pairs 4 (Option.some Jvm.ClassFile.FieldType.boolean) (d + 1 + 2) (23 * (d + 1) + 41) E [.ref (xo E), .int x1, .int x2] σ (some (.int res.1)) res.2 := by
  replace hf : ((lpw (LX0_pairs_0 rec x1 x2) σ).bind ((fun e => Sum.elim (fun b9 => (xsa 1 b9.2 0 b9.1 x1).bind (fun σ10 => some ((1 : Int32), σ10))) (fun b11 => some ((0 : Int32), b11)) e))) = some res := hf
  refine x_start (by decide) (Nat.le_of_ble_eq_true rfl) ?_
  intro p e s m args below meth c S hnm hR hS ls hl
  obtain ⟨hx, hb, hml, hown, hts⟩ := S.1.1
  have hl : lv_has ls 4 [(0, .ref (xo E)), (1, .int x1), (2, .int x2)] := hl
  have hn : XN 0 0 (xnx σ) (xns σ) (xnx res.2) (xns res.2) σ := ⟨Nat.zero_add _, Nat.zero_add _, (rB_X0_pairs (x1 := x1) (x2 := x2) (σ := σ) hrel hf).le.1, (rB_X0_pairs (x1 := x1) (x2 := x2) (σ := σ) hrel hf).le.2⟩
  refine k_bind hf (fun b8 hb8 hf => ?_)
  refine wLX0_pairs_0 S hrec hrel hb8 ?_ ?_ _ _ _ _ _ hR hS hn hl
  · intro b9 eb; subst eb; intro H locs cells slots ls hR hS hn hl
    replace hf := o_l hf
    refine lv_aload_n hx hb dX0_pairs_79 rfl (lv_at hl 0 rfl) ?_
    refine x_oget (k := 7) (v := .ref (xar E 0)) S hR (lk_X0_22 _ List.mem_cons_self) rfl dX0_pairs_80 ?_
    refine lv_iload_n hx hb dX0_pairs_83 rfl (lv_at hl 2 rfl) ?_
    refine lv_iload_n hx hb dX0_pairs_84 rfl (lv_at hl 1 rfl) ?_
    refine k_bind hf (fun σ10 hσ10 hf => ?_)
    refine x_ss1 S hR hS hσ10 dX0_pairs_85 (fun H locs hR hS => ?_)
    replace hn := hn.to (r0_sa hσ10)
    refine lv_iconst (v := 1) hx hb dX0_pairs_86 (by decide) ?_
    obtain rfl := Option.some.inj hf
    exact x_iret S hR hS hn rfl dX0_pairs_87
  · intro b11 eb; subst eb; intro H locs cells slots ls hR hS hn hl
    replace hf := o_r hf
    refine lv_iconst (v := 0) hx hb dX0_pairs_91 (by decide) ?_
    obtain rfl := Option.some.inj hf
    exact x_iret S hR hS hn rfl dX0_pairs_92
set_option maxHeartbeats 4000000 in
set_option maxRecDepth 100000 in
theorem met_X0_pairs {l : Launch} {E : xG} : ∀ {d : Nat} {x1 : Int32} {x2 : Int32} {σ : xS} {res : Int32 × xS}, fX0_pairs d x1 x2 σ = some res → xMet l yX0_pairs cX0_pairs 4 (Option.some Jvm.ClassFile.FieldType.boolean) (d + 2) (23 * (d) + 41) E [.ref (xo E), .int x1, .int x2] σ (some (.int res.1)) res.2 := by
  intro d
  induction d with
  | zero => intro  x1 x2 σ res hf; cases hf
  | succ d ih => intro  x1 x2 σ res hf; exact wBX0_pairs (fun h => ih h) (fun h => r0_X0_pairs h) hf


noncomputable def LX0_paired_5 (y1 : Int32) (y2 : Int32) (y3 : Int32) (q : Int32 × xS) : Option ((Int32 × xS) ⊕ (xS)) :=
  if (12 : Int32) ≤ q.1 then some (Sum.inr q.2) else (xsa 1 q.2 0 q.1 (-1 : Int32)).bind (fun σ1 => some (Sum.inl (q.1 + (1 : Int32), σ1)))
noncomputable def LX0_paired_29 (y1 : Int32) (y2 : Int32) (q : Int32 × Int32 × xS) : Option ((Int32 × Int32 × xS) ⊕ (Int32 × xS)) :=
  if (xN q.2.2 (0 : Fin 3) 2) ≤ q.2.1 then some (Sum.inr (q.1, q.2.2)) else (xpI q.2.2 8 (0 : Int32)).bind (fun σ3 => if (fX0_has y1 q.2.1) = (0 : Int32) then (some (q.1 + (0 : Int32))).bind (fun v4 => some (Sum.inl (v4, q.2.1 + (1 : Int32), σ3))) else (fX0_pairs 16 q.2.1 y2 σ3).bind (fun e5 => if e5.1 = (0 : Int32) then (some (q.1 + (0 : Int32))).bind (fun v6 => some (Sum.inl (v6, q.2.1 + (1 : Int32), e5.2))) else (some (q.1 + (1 : Int32))).bind (fun v7 => some (Sum.inl (v7, q.2.1 + (1 : Int32), e5.2)))))
noncomputable def fX0_paired (x1 : Int32) (x2 : Int32) (σ : xS) : Option (Int32 × xS) :=
  (lpw (LX0_paired_5 x1 x2 (0 : Int32)) ((0 : Int32), σ)).bind (fun b2 => (lpw (LX0_paired_29 x1 x2) ((0 : Int32), (0 : Int32), b2)).bind (fun b8 => some (b8.1, b8.2)))
theorem wi_X0_paired : wInfV yX0_paired cX0_paired 5 (Option.some Jvm.ClassFile.FieldType.int) 2 := ⟨q276, qs7, q106, q277, (by decide +kernel), (by decide +kernel), (by decide +kernel)⟩
set_option maxHeartbeats 4000000 in
set_option maxRecDepth 100000 in
theorem rsLX0_paired_5 {y1 : Int32} {y2 : Int32} {y3 : Int32} {q : Int32 × xS} {res : (Int32 × xS) ⊕ (xS)} (hf : LX0_paired_5 y1 y2 y3 q = some res) : rl0 q.2 (Sum.elim (fun q => q.2) (fun b => b) res) := by
  replace hf : (if (12 : Int32) ≤ q.1 then some (Sum.inr q.2) else (xsa 1 q.2 0 q.1 (-1 : Int32)).bind (fun σ1 => some (Sum.inl (q.1 + (1 : Int32), σ1)))) = some res := hf
  by_cases c0 : (12 : Int32) ≤ q.1
  · replace hf := o_t hf c0
    obtain rfl := Option.some.inj hf
    exact rl0.rf _
  · replace hf := o_f hf c0
    refine k_bind hf (fun σ1 hσ1 hf => ?_)
    refine rl0.tr (r0_sa hσ1) ?_
    obtain rfl := Option.some.inj hf
    exact rl0.rf _
set_option maxHeartbeats 4000000 in
set_option maxRecDepth 100000 in
theorem rLX0_paired_5 {y1 : Int32} {y2 : Int32} {y3 : Int32} {q : Int32 × xS} {b : xS} (h : lpw (LX0_paired_5 y1 y2 y3) q = some b) : rl0 q.2 ((fun b => b) b) :=
  lpw_rel _ (fun q => q.2) (fun b => b) rl0 rl0.tr (fun _ _ hf => rsLX0_paired_5 hf) h
set_option maxHeartbeats 4000000 in
set_option maxRecDepth 100000 in
theorem rsLX0_paired_29 {y1 : Int32} {y2 : Int32} {q : Int32 × Int32 × xS} {res : (Int32 × Int32 × xS) ⊕ (Int32 × xS)} (hf : LX0_paired_29 y1 y2 q = some res) : rl0 q.2.2 (Sum.elim (fun q => q.2.2) (fun b => b.2) res) := by
  replace hf : (if (xN q.2.2 (0 : Fin 3) 2) ≤ q.2.1 then some (Sum.inr (q.1, q.2.2)) else (xpI q.2.2 8 (0 : Int32)).bind (fun σ3 => if (fX0_has y1 q.2.1) = (0 : Int32) then (some (q.1 + (0 : Int32))).bind (fun v4 => some (Sum.inl (v4, q.2.1 + (1 : Int32), σ3))) else (fX0_pairs 16 q.2.1 y2 σ3).bind (fun e5 => if e5.1 = (0 : Int32) then (some (q.1 + (0 : Int32))).bind (fun v6 => some (Sum.inl (v6, q.2.1 + (1 : Int32), e5.2))) else (some (q.1 + (1 : Int32))).bind (fun v7 => some (Sum.inl (v7, q.2.1 + (1 : Int32), e5.2)))))) = some res := hf
  by_cases c0 : (xN q.2.2 (0 : Fin 3) 2) ≤ q.2.1
  · replace hf := o_t hf c0
    obtain rfl := Option.some.inj hf
    exact rl0.rf _
  · replace hf := o_f hf c0
    refine k_bind hf (fun σ3 hσ3 hf => ?_)
    refine rl0.tr (r0_pI hσ3) ?_
    by_cases c0 : (fX0_has y1 q.2.1) = (0 : Int32)
    · replace hf := o_t hf c0
      refine k_bind hf (fun v4 hv4 hf => ?_)
      obtain rfl := Option.some.inj hf
      exact rl0.rf _
    · replace hf := o_f hf c0
      refine k_bind hf (fun e5 he5 hf => ?_)
      refine rl0.tr (r0_X0_pairs he5) ?_
      by_cases c0 : e5.1 = (0 : Int32)
      · replace hf := o_t hf c0
        refine k_bind hf (fun v6 hv6 hf => ?_)
        obtain rfl := Option.some.inj hf
        exact rl0.rf _
      · replace hf := o_f hf c0
        refine k_bind hf (fun v7 hv7 hf => ?_)
        obtain rfl := Option.some.inj hf
        exact rl0.rf _
set_option maxHeartbeats 4000000 in
set_option maxRecDepth 100000 in
theorem rLX0_paired_29 {y1 : Int32} {y2 : Int32} {q : Int32 × Int32 × xS} {b : Int32 × xS} (h : lpw (LX0_paired_29 y1 y2) q = some b) : rl0 q.2.2 ((fun b => b.2) b) :=
  lpw_rel _ (fun q => q.2.2) (fun b => b.2) rl0 rl0.tr (fun _ _ hf => rsLX0_paired_29 hf) h
set_option maxHeartbeats 4000000 in
set_option maxRecDepth 100000 in
theorem r0_X0_paired {x1 : Int32} {x2 : Int32} {σ : xS} {res : Int32 × xS} (hf : fX0_paired x1 x2 σ = some res) : rl0 σ res.2 := by
  replace hf : ((lpw (LX0_paired_5 x1 x2 (0 : Int32)) ((0 : Int32), σ)).bind (fun b2 => (lpw (LX0_paired_29 x1 x2) ((0 : Int32), (0 : Int32), b2)).bind (fun b8 => some (b8.1, b8.2)))) = some res := hf
  refine k_bind hf (fun b2 hb2 hf => ?_)
  refine rl0.tr (rLX0_paired_5 hb2) ?_
  refine k_bind hf (fun b8 hb8 hf => ?_)
  refine rl0.tr (rLX0_paired_29 hb8) ?_
  obtain rfl := Option.some.inj hf
  exact rl0.rf _
set_option maxHeartbeats 4000000 in
set_option maxRecDepth 100000 in
theorem wbLX0_paired_5 {l : Launch} {E : xG} {p : Program} {e : Env} {s : State} {m : MethodId} {args : Array Value} {below : List Frame} {meth : Method} {c : Code} {Q : State → Prop} {n0 s0 nf sf : Nat} {y1 : Int32} {y2 : Int32} {y3 : Int32} {q : Int32 × xS} {res : (Int32 × xS) ⊕ (xS)} (S : xSt E RX0 p m c cX0_paired 5 s args meth (Option.some Jvm.ClassFile.FieldType.int)) (hf : LX0_paired_5 y1 y2 y3 q = some res) (hK : ∀ q, res = Sum.inl q → (∀ (H : Heap) (locs : List Loc) (cells slots : Nat) (ls : Array Slot), xR E q.2 H → va_S (xAA E) s.heap H locs → XN cells slots n0 s0 nf sf q.2 → lv_has ls 5 [(0, .ref (xo E)), (1, .int y1), (2, .int y2), (3, .int y3), (4, .int q.1)] → W p l e (xRm 19 432 (nf - n0) (sf - s0)) s m args below meth c H locs cells slots Q (F0 m 5 ls []))) (hE26 : ∀ b, res = Sum.inr b → (∀ (H : Heap) (locs : List Loc) (cells slots : Nat) (ls : Array Slot), xR E b H → va_S (xAA E) s.heap H locs → XN cells slots n0 s0 nf sf b → lv_has ls 5 [(0, .ref (xo E)), (1, .int y1), (2, .int y2), (3, .int y3)] → W p l e (xRm 19 432 (nf - n0) (sf - s0)) s m args below meth c H locs cells slots Q (F0 m 26 ls []))) : (∀ (H : Heap) (locs : List Loc) (cells slots : Nat) (ls : Array Slot), xR E q.2 H → va_S (xAA E) s.heap H locs → XN cells slots n0 s0 nf sf q.2 → lv_has ls 5 [(0, .ref (xo E)), (1, .int y1), (2, .int y2), (3, .int y3), (4, .int q.1)] → W p l e (xRm 19 432 (nf - n0) (sf - s0)) s m args below meth c H locs cells slots Q (F0 m 5 ls [])) := by
  replace hf : (if (12 : Int32) ≤ q.1 then some (Sum.inr q.2) else (xsa 1 q.2 0 q.1 (-1 : Int32)).bind (fun σ1 => some (Sum.inl (q.1 + (1 : Int32), σ1)))) = some res := hf
  obtain ⟨hx, hb, hml, hown, hts⟩ := S.1.1
  intro H locs cells slots ls hR hS hn hl
  refine lv_iload hx hb dX0_paired_5 (lv_at hl 4 rfl) ?_
  refine lv_bipush (v := 12) hx hb dX0_paired_7 (by decide) ?_
  refine lv_icmp_ge (tgt := 26) hx hb dX0_paired_9 (by decide) (fun c_9 => ?_) (fun c_9 => ?_)
  · replace hf := o_t hf c_9
    exact hE26 _ (Option.some.inj hf).symm _ _ _ _ _ hR hS hn (lv_sub (l' := [(0, .ref (xo E)), (1, .int y1), (2, .int y2), (3, .int y3)]) hl [0, 1, 2, 3] rfl)
  · replace hf := o_f hf c_9
    refine lv_aload_n hx hb dX0_paired_12 rfl (lv_at hl 0 rfl) ?_
    refine x_oget (k := 7) (v := .ref (xar E 0)) S hR (lk_X0_22 _ List.mem_cons_self) rfl dX0_paired_13 ?_
    refine lv_iload hx hb dX0_paired_16 (lv_at hl 4 rfl) ?_
    refine lv_iconst (v := -1) hx hb dX0_paired_18 (by decide) ?_
    refine k_bind hf (fun σ1 hσ1 hf => ?_)
    refine x_ss1 S hR hS hσ1 dX0_paired_19 (fun H locs hR hS => ?_)
    replace hn := hn.to (r0_sa hσ1)
    refine lv_iinc (lv' := [(4, .int (q.1 + (1 : Int32))), (0, .ref (xo E)), (1, .int y1), (2, .int y2), (3, .int y3)]) hx hb dX0_paired_20 hl (k := 4) rfl (m_inc (by decide)) (by decide) rfl (fun ls hl => ?_)
    refine lv_goto (tgt := 5) hx hb dX0_paired_23 (by decide) ?_
    exact hK _ (Option.some.inj hf).symm _ _ _ _ _ hR hS hn (lv_sub (l' := [(0, .ref (xo E)), (1, .int y1), (2, .int y2), (3, .int y3), (4, .int (q.1 + (1 : Int32)))]) hl [1, 2, 3, 4, 0] rfl)
set_option maxHeartbeats 4000000 in
set_option maxRecDepth 100000 in
theorem wLX0_paired_5 {l : Launch} {E : xG} {p : Program} {e : Env} {s : State} {m : MethodId} {args : Array Value} {below : List Frame} {meth : Method} {c : Code} {Q : State → Prop} {n0 s0 nf sf : Nat} {y1 : Int32} {y2 : Int32} {y3 : Int32} {q : Int32 × xS} {res : xS} (S : xSt E RX0 p m c cX0_paired 5 s args meth (Option.some Jvm.ClassFile.FieldType.int)) (h : lpw (LX0_paired_5 y1 y2 y3) q = some res) (hE26 : ∀ b, res = b → (∀ (H : Heap) (locs : List Loc) (cells slots : Nat) (ls : Array Slot), xR E b H → va_S (xAA E) s.heap H locs → XN cells slots n0 s0 nf sf b → lv_has ls 5 [(0, .ref (xo E)), (1, .int y1), (2, .int y2), (3, .int y3)] → W p l e (xRm 19 432 (nf - n0) (sf - s0)) s m args below meth c H locs cells slots Q (F0 m 26 ls []))) : (∀ (H : Heap) (locs : List Loc) (cells slots : Nat) (ls : Array Slot), xR E q.2 H → va_S (xAA E) s.heap H locs → XN cells slots n0 s0 nf sf q.2 → lv_has ls 5 [(0, .ref (xo E)), (1, .int y1), (2, .int y2), (3, .int y3), (4, .int q.1)] → W p l e (xRm 19 432 (nf - n0) (sf - s0)) s m args below meth c H locs cells slots Q (F0 m 5 ls [])) :=
  lpw_go _ (fun q => (∀ (H : Heap) (locs : List Loc) (cells slots : Nat) (ls : Array Slot), xR E q.2 H → va_S (xAA E) s.heap H locs → XN cells slots n0 s0 nf sf q.2 → lv_has ls 5 [(0, .ref (xo E)), (1, .int y1), (2, .int y2), (3, .int y3), (4, .int q.1)] → W p l e (xRm 19 432 (nf - n0) (sf - s0)) s m args below meth c H locs cells slots Q (F0 m 5 ls []))) (fun b0 => (∀ b, b0 = b → (∀ (H : Heap) (locs : List Loc) (cells slots : Nat) (ls : Array Slot), xR E b H → va_S (xAA E) s.heap H locs → XN cells slots n0 s0 nf sf b → lv_has ls 5 [(0, .ref (xo E)), (1, .int y1), (2, .int y2), (3, .int y3)] → W p l e (xRm 19 432 (nf - n0) (sf - s0)) s m args below meth c H locs cells slots Q (F0 m 26 ls [])))) (fun q x hf hK hX => wbLX0_paired_5 S hf hK (fun b eb => (hX _ eb) b rfl)) q res h hE26
set_option maxHeartbeats 4000000 in
set_option maxRecDepth 100000 in
theorem wbLX0_paired_29 {l : Launch} {E : xG} {p : Program} {e : Env} {s : State} {m : MethodId} {args : Array Value} {below : List Frame} {meth : Method} {c : Code} {Q : State → Prop} {n0 s0 nf sf : Nat} {y1 : Int32} {y2 : Int32} {q : Int32 × Int32 × xS} {res : (Int32 × Int32 × xS) ⊕ (Int32 × xS)} (S : xSt E RX0 p m c cX0_paired 5 s args meth (Option.some Jvm.ClassFile.FieldType.int)) (hf : LX0_paired_29 y1 y2 q = some res) (hK : ∀ q, res = Sum.inl q → (∀ (H : Heap) (locs : List Loc) (cells slots : Nat) (ls : Array Slot), xR E q.2.2 H → va_S (xAA E) s.heap H locs → XN cells slots n0 s0 nf sf q.2.2 → lv_has ls 5 [(0, .ref (xo E)), (1, .int y1), (2, .int y2), (3, .int q.1), (4, .int q.2.1)] → W p l e (xRm 19 432 (nf - n0) (sf - s0)) s m args below meth c H locs cells slots Q (F0 m 29 ls []))) (hE79 : ∀ b, res = Sum.inr b → (∀ (H : Heap) (locs : List Loc) (cells slots : Nat) (ls : Array Slot), xR E b.2 H → va_S (xAA E) s.heap H locs → XN cells slots n0 s0 nf sf b.2 → lv_has ls 5 [(3, .int b.1)] → W p l e (xRm 19 432 (nf - n0) (sf - s0)) s m args below meth c H locs cells slots Q (F0 m 79 ls []))) : (∀ (H : Heap) (locs : List Loc) (cells slots : Nat) (ls : Array Slot), xR E q.2.2 H → va_S (xAA E) s.heap H locs → XN cells slots n0 s0 nf sf q.2.2 → lv_has ls 5 [(0, .ref (xo E)), (1, .int y1), (2, .int y2), (3, .int q.1), (4, .int q.2.1)] → W p l e (xRm 19 432 (nf - n0) (sf - s0)) s m args below meth c H locs cells slots Q (F0 m 29 ls [])) := by
  replace hf : (if (xN q.2.2 (0 : Fin 3) 2) ≤ q.2.1 then some (Sum.inr (q.1, q.2.2)) else (xpI q.2.2 8 (0 : Int32)).bind (fun σ3 => if (fX0_has y1 q.2.1) = (0 : Int32) then (some (q.1 + (0 : Int32))).bind (fun v4 => some (Sum.inl (v4, q.2.1 + (1 : Int32), σ3))) else (fX0_pairs 16 q.2.1 y2 σ3).bind (fun e5 => if e5.1 = (0 : Int32) then (some (q.1 + (0 : Int32))).bind (fun v6 => some (Sum.inl (v6, q.2.1 + (1 : Int32), e5.2))) else (some (q.1 + (1 : Int32))).bind (fun v7 => some (Sum.inl (v7, q.2.1 + (1 : Int32), e5.2)))))) = some res := hf
  obtain ⟨hx, hb, hml, hown, hts⟩ := S.1.1
  intro H locs cells slots ls hR hS hn hl
  refine lv_iload hx hb dX0_paired_29 (lv_at hl 4 rfl) ?_
  refine lv_aload_n hx hb dX0_paired_31 rfl (lv_at hl 0 rfl) ?_
  refine x_oget (k := 0) (v := .ref (xnt E (0 : Fin 3))) S hR (lk_X0_10 _ List.mem_cons_self) rfl dX0_paired_32 ?_
  refine x_ngetN (j := (0 : Fin 3)) (k := 2) (v := .int (xN q.2.2 (0 : Fin 3) 2)) S hR (lk_X0_115 _ List.mem_cons_self) rfl dX0_paired_35 ?_
  refine lv_icmp_ge (tgt := 79) hx hb dX0_paired_38 (by decide) (fun c_38 => ?_) (fun c_38 => ?_)
  · replace hf := o_t hf c_38
    exact hE79 _ (Option.some.inj hf).symm _ _ _ _ _ hR hS hn (lv_sub (l' := [(3, .int q.1)]) hl [3] rfl)
  · replace hf := o_f hf c_38
    refine lv_aload_n hx hb dX0_paired_41 rfl (lv_at hl 0 rfl) ?_
    refine lv_iconst (v := 0) hx hb dX0_paired_42 (by decide) ?_
    refine k_bind hf (fun σ3 hσ3 hf => ?_)
    refine x_oput (k := 8) S hR hS hσ3 rfl (pt_X0_284 _ List.mem_cons_self).1 (pt_X0_284 _ List.mem_cons_self).2 rfl rfl (by decide) dX0_paired_43 (fun H locs hR hS => ?_)
    replace hn := hn.to (r0_pI hσ3)
    refine lv_iload_n hx hb dX0_paired_46 rfl (lv_at hl 3 rfl) ?_
    refine lv_iload_n hx hb dX0_paired_47 rfl (lv_at hl 1 rfl) ?_
    refine lv_iload hx hb dX0_paired_48 (lv_at hl 4 rfl) ?_
    refine s_call (As := [.int y1, .int q.2.1]) (rest := [.int q.1]) S.1.1 (met_X0_has rfl) wi_X0_has q210 ⟨rfl, rfl⟩ ⟨Nat.le_of_ble_eq_true rfl, Nat.le_of_ble_eq_true rfl⟩ rfl hl.1 rfl (Nat.le_of_ble_eq_true rfl) dX0_paired_50 hn.cs ?_
    refine lv_if_eq (tgt := 70) hx hb dX0_paired_53 (by decide) (fun c_53 => ?_) (fun c_53 => ?_)
    · replace hf := o_t hf c_53
      refine lv_iconst (v := 0) hx hb dX0_paired_70 (by decide) ?_
      refine lv_iadd hx hb dX0_paired_71 ?_
      refine k_bind hf (fun v4 hv4 hf => ?_)
      refine m_nmi hv4 ?_
      refine lv_istore_n (lv' := [(3, .int v4), (0, .ref (xo E)), (1, .int y1), (2, .int y2), (4, .int q.2.1)]) hx hb dX0_paired_72 rfl hl (by decide) rfl (fun ls hl => ?_)
      refine lv_iinc (lv' := [(4, .int (q.2.1 + (1 : Int32))), (3, .int v4), (0, .ref (xo E)), (1, .int y1), (2, .int y2)]) hx hb dX0_paired_73 hl (k := 4) rfl (m_inc (by decide)) (by decide) rfl (fun ls hl => ?_)
      refine lv_goto (tgt := 29) hx hb dX0_paired_76 (by decide) ?_
      exact hK _ (Option.some.inj hf).symm _ _ _ _ _ hR hS hn (lv_sub (l' := [(0, .ref (xo E)), (1, .int y1), (2, .int y2), (3, .int v4), (4, .int (q.2.1 + (1 : Int32)))]) hl [2, 3, 4, 1, 0] rfl)
    · replace hf := o_f hf c_53
      refine lv_aload_n hx hb dX0_paired_56 rfl (lv_at hl 0 rfl) ?_
      refine lv_iload hx hb dX0_paired_57 (lv_at hl 4 rfl) ?_
      refine lv_iload_n hx hb dX0_paired_59 rfl (lv_at hl 2 rfl) ?_
      refine k_bind hf (fun e5 he5 hf => ?_)
      refine x_call (C := RX0) (As := [.int q.2.1, .int y2]) (rest := [.int q.1]) S hR hS hn (met_X0_pairs he5) (r0_X0_pairs he5).le (hn.b (r0_X0_pairs he5)) wi_X0_pairs (xrc S.2 hR (ci := 0) rfl (Or.inl ⟨rfl, rfl⟩)) rfl q278 ⟨Nat.le_of_ble_eq_true rfl, Nat.le_of_ble_eq_true rfl⟩ rfl hl.1 rfl (Nat.le_of_ble_eq_true rfl) dX0_paired_60 (fun H locs cells slots hR hS hn => ?_)
      refine lv_if_eq (tgt := 70) hx hb dX0_paired_63 (by decide) (fun c_63 => ?_) (fun c_63 => ?_)
      · replace hf := o_t hf c_63
        refine lv_iconst (v := 0) hx hb dX0_paired_70 (by decide) ?_
        refine lv_iadd hx hb dX0_paired_71 ?_
        refine k_bind hf (fun v6 hv6 hf => ?_)
        refine m_nmi hv6 ?_
        refine lv_istore_n (lv' := [(3, .int v6), (0, .ref (xo E)), (1, .int y1), (2, .int y2), (4, .int q.2.1)]) hx hb dX0_paired_72 rfl hl (by decide) rfl (fun ls hl => ?_)
        refine lv_iinc (lv' := [(4, .int (q.2.1 + (1 : Int32))), (3, .int v6), (0, .ref (xo E)), (1, .int y1), (2, .int y2)]) hx hb dX0_paired_73 hl (k := 4) rfl (m_inc (by decide)) (by decide) rfl (fun ls hl => ?_)
        refine lv_goto (tgt := 29) hx hb dX0_paired_76 (by decide) ?_
        exact hK _ (Option.some.inj hf).symm _ _ _ _ _ hR hS hn (lv_sub (l' := [(0, .ref (xo E)), (1, .int y1), (2, .int y2), (3, .int v6), (4, .int (q.2.1 + (1 : Int32)))]) hl [2, 3, 4, 1, 0] rfl)
      · replace hf := o_f hf c_63
        refine lv_iconst (v := 1) hx hb dX0_paired_66 (by decide) ?_
        refine lv_goto (tgt := 71) hx hb dX0_paired_67 (by decide) ?_
        refine lv_iadd hx hb dX0_paired_71 ?_
        refine k_bind hf (fun v7 hv7 hf => ?_)
        refine m_nmi hv7 ?_
        refine lv_istore_n (lv' := [(3, .int v7), (0, .ref (xo E)), (1, .int y1), (2, .int y2), (4, .int q.2.1)]) hx hb dX0_paired_72 rfl hl (by decide) rfl (fun ls hl => ?_)
        refine lv_iinc (lv' := [(4, .int (q.2.1 + (1 : Int32))), (3, .int v7), (0, .ref (xo E)), (1, .int y1), (2, .int y2)]) hx hb dX0_paired_73 hl (k := 4) rfl (m_inc (by decide)) (by decide) rfl (fun ls hl => ?_)
        refine lv_goto (tgt := 29) hx hb dX0_paired_76 (by decide) ?_
        exact hK _ (Option.some.inj hf).symm _ _ _ _ _ hR hS hn (lv_sub (l' := [(0, .ref (xo E)), (1, .int y1), (2, .int y2), (3, .int v7), (4, .int (q.2.1 + (1 : Int32)))]) hl [2, 3, 4, 1, 0] rfl)
set_option maxHeartbeats 4000000 in
set_option maxRecDepth 100000 in
theorem wLX0_paired_29 {l : Launch} {E : xG} {p : Program} {e : Env} {s : State} {m : MethodId} {args : Array Value} {below : List Frame} {meth : Method} {c : Code} {Q : State → Prop} {n0 s0 nf sf : Nat} {y1 : Int32} {y2 : Int32} {q : Int32 × Int32 × xS} {res : Int32 × xS} (S : xSt E RX0 p m c cX0_paired 5 s args meth (Option.some Jvm.ClassFile.FieldType.int)) (h : lpw (LX0_paired_29 y1 y2) q = some res) (hE79 : ∀ b, res = b → (∀ (H : Heap) (locs : List Loc) (cells slots : Nat) (ls : Array Slot), xR E b.2 H → va_S (xAA E) s.heap H locs → XN cells slots n0 s0 nf sf b.2 → lv_has ls 5 [(3, .int b.1)] → W p l e (xRm 19 432 (nf - n0) (sf - s0)) s m args below meth c H locs cells slots Q (F0 m 79 ls []))) : (∀ (H : Heap) (locs : List Loc) (cells slots : Nat) (ls : Array Slot), xR E q.2.2 H → va_S (xAA E) s.heap H locs → XN cells slots n0 s0 nf sf q.2.2 → lv_has ls 5 [(0, .ref (xo E)), (1, .int y1), (2, .int y2), (3, .int q.1), (4, .int q.2.1)] → W p l e (xRm 19 432 (nf - n0) (sf - s0)) s m args below meth c H locs cells slots Q (F0 m 29 ls [])) :=
  lpw_go _ (fun q => (∀ (H : Heap) (locs : List Loc) (cells slots : Nat) (ls : Array Slot), xR E q.2.2 H → va_S (xAA E) s.heap H locs → XN cells slots n0 s0 nf sf q.2.2 → lv_has ls 5 [(0, .ref (xo E)), (1, .int y1), (2, .int y2), (3, .int q.1), (4, .int q.2.1)] → W p l e (xRm 19 432 (nf - n0) (sf - s0)) s m args below meth c H locs cells slots Q (F0 m 29 ls []))) (fun b0 => (∀ b, b0 = b → (∀ (H : Heap) (locs : List Loc) (cells slots : Nat) (ls : Array Slot), xR E b.2 H → va_S (xAA E) s.heap H locs → XN cells slots n0 s0 nf sf b.2 → lv_has ls 5 [(3, .int b.1)] → W p l e (xRm 19 432 (nf - n0) (sf - s0)) s m args below meth c H locs cells slots Q (F0 m 79 ls [])))) (fun q x hf hK hX => wbLX0_paired_29 S hf hK (fun b eb => (hX _ eb) b rfl)) q res h hE79
set_option maxHeartbeats 4000000 in
set_option maxRecDepth 100000 in
theorem met_X0_paired {l : Launch} {E : xG} {x1 : Int32} {x2 : Int32} {σ : xS} {res : Int32 × xS} (hf : fX0_paired x1 x2 σ = some res) : xMet l yX0_paired cX0_paired 5 (Option.some Jvm.ClassFile.FieldType.int) 19 432 E [.ref (xo E), .int x1, .int x2] σ (some (.int res.1)) res.2 := by
  replace hf : ((lpw (LX0_paired_5 x1 x2 (0 : Int32)) ((0 : Int32), σ)).bind (fun b2 => (lpw (LX0_paired_29 x1 x2) ((0 : Int32), (0 : Int32), b2)).bind (fun b8 => some (b8.1, b8.2)))) = some res := hf
  refine x_start (by decide) (Nat.le_of_ble_eq_true rfl) ?_
  intro p e s m args below meth c S hnm hR hS ls hl
  obtain ⟨hx, hb, hml, hown, hts⟩ := S.1.1
  have hl : lv_has ls 5 [(0, .ref (xo E)), (1, .int x1), (2, .int x2)] := hl
  have hn : XN 0 0 (xnx σ) (xns σ) (xnx res.2) (xns res.2) σ := ⟨Nat.zero_add _, Nat.zero_add _, (r0_X0_paired (x1 := x1) (x2 := x2) (σ := σ) hf).le.1, (r0_X0_paired (x1 := x1) (x2 := x2) (σ := σ) hf).le.2⟩
  refine lv_iconst (v := 0) hx hb dX0_paired_0 (by decide) ?_
  refine lv_istore_n (lv' := [(3, .int (0 : Int32)), (0, .ref (xo E)), (1, .int x1), (2, .int x2)]) hx hb dX0_paired_1 rfl hl (by decide) rfl (fun ls hl => ?_)
  refine lv_iconst (v := 0) hx hb dX0_paired_2 (by decide) ?_
  refine lv_istore (lv' := [(4, .int (0 : Int32)), (3, .int (0 : Int32)), (0, .ref (xo E)), (1, .int x1), (2, .int x2)]) hx hb dX0_paired_3 hl (by decide) rfl (fun ls hl => ?_)
  refine k_bind hf (fun b2 hb2 hf => ?_)
  refine wLX0_paired_5 S hb2 ?_ _ _ _ _ _ hR hS hn (lv_sub (l' := [(0, .ref (xo E)), (1, .int x1), (2, .int x2), (3, .int (0 : Int32)), (4, .int (0 : Int32))]) hl [2, 3, 4, 1, 0] rfl)
  · intro b eb; subst eb; intro H locs cells slots ls hR hS hn hl
    refine lv_iconst (v := 0) hx hb dX0_paired_26 (by decide) ?_
    refine lv_istore (lv' := [(4, .int (0 : Int32)), (0, .ref (xo E)), (1, .int x1), (2, .int x2), (3, .int (0 : Int32))]) hx hb dX0_paired_27 hl (by decide) rfl (fun ls hl => ?_)
    refine k_bind hf (fun b8 hb8 hf => ?_)
    refine wLX0_paired_29 S hb8 ?_ _ _ _ _ _ hR hS hn (lv_sub (l' := [(0, .ref (xo E)), (1, .int x1), (2, .int x2), (3, .int (0 : Int32)), (4, .int (0 : Int32))]) hl [1, 2, 3, 4, 0] rfl)
    · intro b eb; subst eb; intro H locs cells slots ls hR hS hn hl
      refine lv_iload_n hx hb dX0_paired_79 rfl (lv_at hl 0 rfl) ?_
      obtain rfl := Option.some.inj hf
      exact x_iret S hR hS hn rfl dX0_paired_80
