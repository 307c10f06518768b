/-! the component, walked: X0_halvesBy X0_halvesOf X0_order X0_inBy X0_outBy X0_findsHalves X0_with -/

noncomputable def KX0_halvesBy_6_69 (y1 : Int32) (y4 : Int64) (y8 : Int32) (y9 : Int64) (z0 : Int64) (z1 : Int64) (σ : xS) : Option ((Int64 × Int32) ⊕ (Int64)) :=
  (some (z1 ||| z0)).bind (fun v1 => if (lg_cmp ((lur y4 ((16 : Int32) + y8)) &&& (1 : Int64)) (1 : Int64)) = (0 : Int32) then (some (v1 ||| y9)).bind (fun v3 => some (Sum.inl (v3, y8 + (1 : Int32)))) else (some (v1 ||| (0 : Int64))).bind (fun v2 => some (Sum.inl (v2, y8 + (1 : Int32)))))
noncomputable def KX0_halvesBy_6_44 (y1 : Int32) (y4 : Int64) (y6 : Int64) (y8 : Int32) (z0 : Int64) (σ : xS) : Option ((Int64 × Int32) ⊕ (Int64)) :=
  if (lg_cmp ((lur y4 y8) &&& (1 : Int64)) (1 : Int64)) = (0 : Int32) then KX0_halvesBy_6_69 y1 y4 y8 z0 (lsh z0 (16 : Int32)) y6 σ else KX0_halvesBy_6_69 y1 y4 y8 z0 (0 : Int64) y6 σ
noncomputable def LX0_halvesBy_6 (y1 : Int32) (y4 : Int64) (σ : xS) (q : Int64 × Int32) : Option ((Int64 × Int32) ⊕ (Int64)) :=
  if (xN σ (0 : Fin 3) 2) ≤ q.2 then some (Sum.inr q.1) else if (fX0_has y1 q.2) = (0 : Int32) then KX0_halvesBy_6_44 y1 y4 q.1 q.2 (0 : Int64) σ else (xla 1 σ 11 q.2).bind (fun v4 => KX0_halvesBy_6_44 y1 y4 q.1 q.2 ((v4 &&& y1).toInt64) σ)
noncomputable def fX0_halvesBy (x1 : Int32) (x2 : Int64) (x4 : Int64) (σ : xS) : Option (Int32 × xS) :=
  (lpw (LX0_halvesBy_6 x1 x4 σ) (x2, (0 : Int32))).bind (fun b5 => if (lg_cmp (b5 &&& x4) (0 : Int64)) = (0 : Int32) then (some ((b5 ||| x4) ^^^ (-1 : Int64))).bind (fun v6 => (fJ2_bitCount b5).bind (fun v7 => (fX0_paired ((v6 &&& x1.toInt64).toInt32) (((lur v6 (16 : Int32)) &&& x1.toInt64).toInt32) σ).bind (fun e8 => some ((v7 + e8.1), e8.2)))) else some ((1000 : Int32), σ))
theorem wi_X0_halvesBy : wInfV yX0_halvesBy cX0_halvesBy 11 (Option.some Jvm.ClassFile.FieldType.int) 3 := ⟨q265, qs6, q106, q266, (by decide +kernel), (by decide +kernel), (by decide +kernel)⟩
set_option maxHeartbeats 4000000 in
set_option maxRecDepth 100000 in
theorem r0_X0_halvesBy {x1 : Int32} {x2 : Int64} {x4 : Int64} {σ : xS} {res : Int32 × xS} (hf : fX0_halvesBy x1 x2 x4 σ = some res) : rl0 σ res.2 := by
  replace hf : ((lpw (LX0_halvesBy_6 x1 x4 σ) (x2, (0 : Int32))).bind (fun b5 => if (lg_cmp (b5 &&& x4) (0 : Int64)) = (0 : Int32) then (some ((b5 ||| x4) ^^^ (-1 : Int64))).bind (fun v6 => (fJ2_bitCount b5).bind (fun v7 => (fX0_paired ((v6 &&& x1.toInt64).toInt32) (((lur v6 (16 : Int32)) &&& x1.toInt64).toInt32) σ).bind (fun e8 => some ((v7 + e8.1), e8.2)))) else some ((1000 : Int32), σ))) = some res := hf
  refine k_bind hf (fun b5 hb5 hf => ?_)
  by_cases c0 : (lg_cmp (b5 &&& x4) (0 : Int64)) = (0 : Int32)
  · replace hf := o_t hf c0
    refine k_bind hf (fun v6 hv6 hf => ?_)
    refine k_bind hf (fun v7 hv7 hf => ?_)
    refine k_bind hf (fun e8 he8 hf => ?_)
    refine rl0.tr (r0_X0_paired he8) ?_
    obtain rfl := Option.some.inj hf
    exact rl0.rf _
  · replace hf := o_f hf c0
    obtain rfl := Option.some.inj hf
    exact rl0.rf _
set_option maxHeartbeats 4000000 in
set_option maxRecDepth 100000 in
theorem wKX0_halvesBy_6_69 {l : Launch} {E : xG} {p : Program} {e : Env} {s : State} {m : MethodId} {args : Array Value} {below : List Frame} {meth : Method} {c : Code} {Q : State → Prop} {n0 s0 nf sf : Nat} {y1 : Int32} {y4 : Int64} {y8 : Int32} {y9 : Int64} {z0 : Int64} {z1 : Int64} {σ : xS} {res : (Int64 × Int32) ⊕ (Int64)} (S : xSt E RX0 p m c cX0_halvesBy 11 s args meth (Option.some Jvm.ClassFile.FieldType.int)) (hf : KX0_halvesBy_6_69 y1 y4 y8 y9 z0 z1 σ = some res) (hK : ∀ q, res = Sum.inl q → (∀ (H : Heap) (locs : List Loc) (cells slots : Nat) (ls : Array Slot), xR E σ H → va_S (xAA E) s.heap H locs → XN cells slots n0 s0 nf sf σ → lv_has ls 11 [(0, .ref (xo E)), (1, .int y1), (4, .long y4), (6, .long q.1), (8, .int q.2)] → W p l e (xRm 20 456 (nf - n0) (sf - s0)) s m args below meth c H locs cells slots Q (F0 m 6 ls []))) (hE104 : ∀ b, res = Sum.inr b → (∀ (H : Heap) (locs : List Loc) (cells slots : Nat) (ls : Array Slot), xR E σ H → va_S (xAA E) s.heap H locs → XN cells slots n0 s0 nf sf σ → lv_has ls 11 [(0, .ref (xo E)), (1, .int y1), (4, .long y4), (6, .long b)] → W p l e (xRm 20 456 (nf - n0) (sf - s0)) s m args below meth c H locs cells slots Q (F0 m 104 ls []))) : ∀ (H : Heap) (locs : List Loc) (cells slots : Nat) (ls : Array Slot), xR E σ H → va_S (xAA E) s.heap H locs → XN cells slots n0 s0 nf sf σ → lv_has ls 11 [(0, .ref (xo E)), (1, .int y1), (4, .long y4), (8, .int y8), (9, .long y9)] → W p l e (xRm 20 456 (nf - n0) (sf - s0)) s m args below meth c H locs cells slots Q (F0 m 69 ls [.long z0, .long z1]) := by
  replace hf : ((some (z1 ||| z0)).bind (fun v1 => if (lg_cmp ((lur y4 ((16 : Int32) + y8)) &&& (1 : Int64)) (1 : Int64)) = (0 : Int32) then (some (v1 ||| y9)).bind (fun v3 => some (Sum.inl (v3, y8 + (1 : Int32)))) else (some (v1 ||| (0 : Int64))).bind (fun v2 => some (Sum.inl (v2, y8 + (1 : Int32)))))) = some res := hf
  obtain ⟨hx, hb, hml, hown, hts⟩ := S.1.1
  intro H locs cells slots ls hR hS hn hl
  refine lv_lor hx hb dX0_halvesBy_69 ?_
  refine k_bind hf (fun v1 hv1 hf => ?_)
  refine m_nml hv1 ?_
  refine lv_lstore (lv' := [(6, .long v1), (0, .ref (xo E)), (1, .int y1), (4, .long y4), (8, .int y8), (9, .long y9)]) hx hb dX0_halvesBy_70 hl (by decide) rfl (fun ls hl => ?_)
  refine lv_lload hx hb dX0_halvesBy_72 (lv_at hl 0 rfl) ?_
  refine lv_lload hx hb dX0_halvesBy_74 (lv_at hl 3 rfl) ?_
  refine lv_bipush (v := 16) hx hb dX0_halvesBy_76 (by decide) ?_
  refine lv_iload hx hb dX0_halvesBy_78 (lv_at hl 4 rfl) ?_
  refine lv_iadd hx hb dX0_halvesBy_80 ?_
  refine lv_lushr (v := (lur y4 ((16 : Int32) + y8))) hx hb dX0_halvesBy_81 rfl ?_
  refine lv_lconst (v := 1) hx hb dX0_halvesBy_82 (by decide) ?_
  refine lv_land hx hb dX0_halvesBy_83 ?_
  refine lv_lconst (v := 1) hx hb dX0_halvesBy_84 (by decide) ?_
  refine W.lcmp hx hb dX0_halvesBy_85 ?_
  refine lv_if_ne (tgt := 94) hx hb dX0_halvesBy_86 (by decide) (fun c_86 => ?_) (fun c_86 => ?_)
  · replace hf := o_f hf c_86
    refine lv_lconst (v := 0) hx hb dX0_halvesBy_94 (by decide) ?_
    refine lv_lor hx hb dX0_halvesBy_95 ?_
    refine k_bind hf (fun v2 hv2 hf => ?_)
    refine m_nml hv2 ?_
    refine lv_lstore (lv' := [(6, .long v2), (0, .ref (xo E)), (1, .int y1), (4, .long y4), (8, .int y8), (9, .long y9)]) hx hb dX0_halvesBy_96 hl (by decide) rfl (fun ls hl => ?_)
    refine lv_iinc (lv' := [(8, .int (y8 + (1 : Int32))), (6, .long v2), (0, .ref (xo E)), (1, .int y1), (4, .long y4), (9, .long y9)]) hx hb dX0_halvesBy_98 hl (k := 4) rfl (m_inc (by decide)) (by decide) rfl (fun ls hl => ?_)
    refine lv_goto (tgt := 6) hx hb dX0_halvesBy_101 (by decide) ?_
    exact hK _ (Option.some.inj hf).symm _ _ _ _ _ hR hS hn (lv_sub (l' := [(0, .ref (xo E)), (1, .int y1), (4, .long y4), (6, .long v2), (8, .int (y8 + (1 : Int32)))]) hl [2, 3, 4, 1, 0] rfl)
  · replace hf := o_t hf c_86
    refine lv_lload hx hb dX0_halvesBy_89 (lv_at hl 5 rfl) ?_
    refine lv_goto (tgt := 95) hx hb dX0_halvesBy_91 (by decide) ?_
    refine lv_lor hx hb dX0_halvesBy_95 ?_
    refine k_bind hf (fun v3 hv3 hf => ?_)
    refine m_nml hv3 ?_
    refine lv_lstore (lv' := [(6, .long v3), (0, .ref (xo E)), (1, .int y1), (4, .long y4), (8, .int y8), (9, .long y9)]) hx hb dX0_halvesBy_96 hl (by decide) rfl (fun ls hl => ?_)
    refine lv_iinc (lv' := [(8, .int (y8 + (1 : Int32))), (6, .long v3), (0, .ref (xo E)), (1, .int y1), (4, .long y4), (9, .long y9)]) hx hb dX0_halvesBy_98 hl (k := 4) rfl (m_inc (by decide)) (by decide) rfl (fun ls hl => ?_)
    refine lv_goto (tgt := 6) hx hb dX0_halvesBy_101 (by decide) ?_
    exact hK _ (Option.some.inj hf).symm _ _ _ _ _ hR hS hn (lv_sub (l' := [(0, .ref (xo E)), (1, .int y1), (4, .long y4), (6, .long v3), (8, .int (y8 + (1 : Int32)))]) hl [2, 3, 4, 1, 0] rfl)
set_option maxHeartbeats 4000000 in
set_option maxRecDepth 100000 in
theorem wKX0_halvesBy_6_44 {l : Launch} {E : xG} {p : Program} {e : Env} {s : State} {m : MethodId} {args : Array Value} {below : List Frame} {meth : Method} {c : Code} {Q : State → Prop} {n0 s0 nf sf : Nat} {y1 : Int32} {y4 : Int64} {y6 : Int64} {y8 : Int32} {z0 : Int64} {σ : xS} {res : (Int64 × Int32) ⊕ (Int64)} (S : xSt E RX0 p m c cX0_halvesBy 11 s args meth (Option.some Jvm.ClassFile.FieldType.int)) (hf : KX0_halvesBy_6_44 y1 y4 y6 y8 z0 σ = some res) (hK : ∀ q, res = Sum.inl q → (∀ (H : Heap) (locs : List Loc) (cells slots : Nat) (ls : Array Slot), xR E σ H → va_S (xAA E) s.heap H locs → XN cells slots n0 s0 nf sf σ → lv_has ls 11 [(0, .ref (xo E)), (1, .int y1), (4, .long y4), (6, .long q.1), (8, .int q.2)] → W p l e (xRm 20 456 (nf - n0) (sf - s0)) s m args below meth c H locs cells slots Q (F0 m 6 ls []))) (hE104 : ∀ b, res = Sum.inr b → (∀ (H : Heap) (locs : List Loc) (cells slots : Nat) (ls : Array Slot), xR E σ H → va_S (xAA E) s.heap H locs → XN cells slots n0 s0 nf sf σ → lv_has ls 11 [(0, .ref (xo E)), (1, .int y1), (4, .long y4), (6, .long b)] → W p l e (xRm 20 456 (nf - n0) (sf - s0)) s m args below meth c H locs cells slots Q (F0 m 104 ls []))) : ∀ (H : Heap) (locs : List Loc) (cells slots : Nat) (ls : Array Slot), xR E σ H → va_S (xAA E) s.heap H locs → XN cells slots n0 s0 nf sf σ → lv_has ls 11 [(0, .ref (xo E)), (1, .int y1), (4, .long y4), (6, .long y6), (8, .int y8)] → W p l e (xRm 20 456 (nf - n0) (sf - s0)) s m args below meth c H locs cells slots Q (F0 m 44 ls [.long z0]) := by
  replace hf : (if (lg_cmp ((lur y4 y8) &&& (1 : Int64)) (1 : Int64)) = (0 : Int32) then KX0_halvesBy_6_69 y1 y4 y8 z0 (lsh z0 (16 : Int32)) y6 σ else KX0_halvesBy_6_69 y1 y4 y8 z0 (0 : Int64) y6 σ) = some res := hf
  obtain ⟨hx, hb, hml, hown, hts⟩ := S.1.1
  intro H locs cells slots ls hR hS hn hl
  refine lv_lstore (lv' := [(9, .long z0), (0, .ref (xo E)), (1, .int y1), (4, .long y4), (6, .long y6), (8, .int y8)]) hx hb dX0_halvesBy_44 hl (by decide) rfl (fun ls hl => ?_)
  refine lv_lload hx hb dX0_halvesBy_46 (lv_at hl 4 rfl) ?_
  refine lv_lload hx hb dX0_halvesBy_48 (lv_at hl 3 rfl) ?_
  refine lv_iload hx hb dX0_halvesBy_50 (lv_at hl 5 rfl) ?_
  refine lv_lushr (v := (lur y4 y8)) hx hb dX0_halvesBy_52 rfl ?_
  refine lv_lconst (v := 1) hx hb dX0_halvesBy_53 (by decide) ?_
  refine lv_land hx hb dX0_halvesBy_54 ?_
  refine lv_lconst (v := 1) hx hb dX0_halvesBy_55 (by decide) ?_
  refine W.lcmp hx hb dX0_halvesBy_56 ?_
  refine lv_if_ne (tgt := 68) hx hb dX0_halvesBy_57 (by decide) (fun c_57 => ?_) (fun c_57 => ?_)
  · replace hf := o_f hf c_57
    refine lv_lconst (v := 0) hx hb dX0_halvesBy_68 (by decide) ?_
    exact wKX0_halvesBy_6_69 S hf hK hE104 _ _ _ _ _ hR hS hn (lv_sub (l' := [(0, .ref (xo E)), (1, .int y1), (4, .long y4), (8, .int y8), (9, .long z0)]) hl [1, 2, 3, 5, 0] rfl)
  · replace hf := o_t hf c_57
    refine lv_lload hx hb dX0_halvesBy_60 (lv_at hl 0 rfl) ?_
    refine lv_bipush (v := 16) hx hb dX0_halvesBy_62 (by decide) ?_
    refine lv_lshl (v := (lsh z0 (16 : Int32))) hx hb dX0_halvesBy_64 rfl ?_
    refine lv_goto (tgt := 69) hx hb dX0_halvesBy_65 (by decide) ?_
    exact wKX0_halvesBy_6_69 S hf hK hE104 _ _ _ _ _ hR hS hn (lv_sub (l' := [(0, .ref (xo E)), (1, .int y1), (4, .long y4), (8, .int y8), (9, .long z0)]) hl [1, 2, 3, 5, 0] rfl)
set_option maxHeartbeats 4000000 in
set_option maxRecDepth 100000 in
theorem wbLX0_halvesBy_6 {l : Launch} {E : xG} {p : Program} {e : Env} {s : State} {m : MethodId} {args : Array Value} {below : List Frame} {meth : Method} {c : Code} {Q : State → Prop} {n0 s0 nf sf : Nat} {y1 : Int32} {y4 : Int64} {σ : xS} {q : Int64 × Int32} {res : (Int64 × Int32) ⊕ (Int64)} (S : xSt E RX0 p m c cX0_halvesBy 11 s args meth (Option.some Jvm.ClassFile.FieldType.int)) (hf : LX0_halvesBy_6 y1 y4 σ q = some res) (hK : ∀ q, res = Sum.inl q → (∀ (H : Heap) (locs : List Loc) (cells slots : Nat) (ls : Array Slot), xR E σ H → va_S (xAA E) s.heap H locs → XN cells slots n0 s0 nf sf σ → lv_has ls 11 [(0, .ref (xo E)), (1, .int y1), (4, .long y4), (6, .long q.1), (8, .int q.2)] → W p l e (xRm 20 456 (nf - n0) (sf - s0)) s m args below meth c H locs cells slots Q (F0 m 6 ls []))) (hE104 : ∀ b, res = Sum.inr b → (∀ (H : Heap) (locs : List Loc) (cells slots : Nat) (ls : Array Slot), xR E σ H → va_S (xAA E) s.heap H locs → XN cells slots n0 s0 nf sf σ → lv_has ls 11 [(0, .ref (xo E)), (1, .int y1), (4, .long y4), (6, .long b)] → W p l e (xRm 20 456 (nf - n0) (sf - s0)) s m args below meth c H locs cells slots Q (F0 m 104 ls []))) : (∀ (H : Heap) (locs : List Loc) (cells slots : Nat) (ls : Array Slot), xR E σ H → va_S (xAA E) s.heap H locs → XN cells slots n0 s0 nf sf σ → lv_has ls 11 [(0, .ref (xo E)), (1, .int y1), (4, .long y4), (6, .long q.1), (8, .int q.2)] → W p l e (xRm 20 456 (nf - n0) (sf - s0)) s m args below meth c H locs cells slots Q (F0 m 6 ls [])) := by
  replace hf : (if (xN σ (0 : Fin 3) 2) ≤ q.2 then some (Sum.inr q.1) else if (fX0_has y1 q.2) = (0 : Int32) then KX0_halvesBy_6_44 y1 y4 q.1 q.2 (0 : Int64) σ else (xla 1 σ 11 q.2).bind (fun v4 => KX0_halvesBy_6_44 y1 y4 q.1 q.2 ((v4 &&& y1).toInt64) σ)) = some res := hf
  obtain ⟨hx, hb, hml, hown, hts⟩ := S.1.1
  intro H locs cells slots ls hR hS hn hl
  refine lv_iload hx hb dX0_halvesBy_6 (lv_at hl 4 rfl) ?_
  refine lv_aload_n hx hb dX0_halvesBy_8 rfl (lv_at hl 0 rfl) ?_
  refine x_oget (k := 0) (v := .ref (xnt E (0 : Fin 3))) S hR (lk_X0_10 _ List.mem_cons_self) rfl dX0_halvesBy_9 ?_
  refine x_ngetN (j := (0 : Fin 3)) (k := 2) (v := .int (xN σ (0 : Fin 3) 2)) S hR (lk_X0_115 _ List.mem_cons_self) rfl dX0_halvesBy_12 ?_
  refine lv_icmp_ge (tgt := 104) hx hb dX0_halvesBy_15 (by decide) (fun c_15 => ?_) (fun c_15 => ?_)
  · replace hf := o_t hf c_15
    exact hE104 _ (Option.some.inj hf).symm _ _ _ _ _ hR hS hn (lv_sub (l' := [(0, .ref (xo E)), (1, .int y1), (4, .long y4), (6, .long q.1)]) hl [0, 1, 2, 3] rfl)
  · replace hf := o_f hf c_15
    refine lv_iload_n hx hb dX0_halvesBy_18 rfl (lv_at hl 1 rfl) ?_
    refine lv_iload hx hb dX0_halvesBy_19 (lv_at hl 4 rfl) ?_
    refine s_call (As := [.int y1, .int q.2]) (rest := []) S.1.1 (met_X0_has rfl) wi_X0_has q210 ⟨rfl, rfl⟩ ⟨Nat.le_of_ble_eq_true rfl, Nat.le_of_ble_eq_true rfl⟩ rfl hl.1 rfl (Nat.le_of_ble_eq_true rfl) dX0_halvesBy_21 hn.cs ?_
    refine lv_if_eq (tgt := 43) hx hb dX0_halvesBy_24 (by decide) (fun c_24 => ?_) (fun c_24 => ?_)
    · replace hf := o_t hf c_24
      refine lv_lconst (v := 0) hx hb dX0_halvesBy_43 (by decide) ?_
      exact wKX0_halvesBy_6_44 S hf hK hE104 _ _ _ _ _ hR hS hn hl
    · replace hf := o_f hf c_24
      refine lv_aload_n hx hb dX0_halvesBy_27 rfl (lv_at hl 0 rfl) ?_
      refine x_oget (k := 0) (v := .ref (xnt E (0 : Fin 3))) S hR (lk_X0_10 _ List.mem_cons_self) rfl dX0_halvesBy_28 ?_
      refine x_ngetN (j := (0 : Fin 3)) (k := 1) (v := .ref (xar E 11)) S hR (lk_X0_152 _ List.mem_cons_self) rfl dX0_halvesBy_31 ?_
      refine lv_iload hx hb dX0_halvesBy_34 (lv_at hl 4 rfl) ?_
      refine k_bind hf (fun v4 hv4 hf => ?_)
      refine x_sl1 S hR hv4 dX0_halvesBy_36 ?_
      refine lv_iload_n hx hb dX0_halvesBy_37 rfl (lv_at hl 1 rfl) ?_
      refine lv_iand hx hb dX0_halvesBy_38 ?_
      refine lv_i2l hx hb dX0_halvesBy_39 rfl ?_
      refine lv_goto (tgt := 44) hx hb dX0_halvesBy_40 (by decide) ?_
      exact wKX0_halvesBy_6_44 S hf hK hE104 _ _ _ _ _ hR hS hn hl
set_option maxHeartbeats 4000000 in
set_option maxRecDepth 100000 in
theorem wLX0_halvesBy_6 {l : Launch} {E : xG} {p : Program} {e : Env} {s : State} {m : MethodId} {args : Array Value} {below : List Frame} {meth : Method} {c : Code} {Q : State → Prop} {n0 s0 nf sf : Nat} {y1 : Int32} {y4 : Int64} {σ : xS} {q : Int64 × Int32} {res : Int64} (S : xSt E RX0 p m c cX0_halvesBy 11 s args meth (Option.some Jvm.ClassFile.FieldType.int)) (h : lpw (LX0_halvesBy_6 y1 y4 σ) q = some res) (hE104 : ∀ b, res = b → (∀ (H : Heap) (locs : List Loc) (cells slots : Nat) (ls : Array Slot), xR E σ H → va_S (xAA E) s.heap H locs → XN cells slots n0 s0 nf sf σ → lv_has ls 11 [(0, .ref (xo E)), (1, .int y1), (4, .long y4), (6, .long b)] → W p l e (xRm 20 456 (nf - n0) (sf - s0)) s m args below meth c H locs cells slots Q (F0 m 104 ls []))) : (∀ (H : Heap) (locs : List Loc) (cells slots : Nat) (ls : Array Slot), xR E σ H → va_S (xAA E) s.heap H locs → XN cells slots n0 s0 nf sf σ → lv_has ls 11 [(0, .ref (xo E)), (1, .int y1), (4, .long y4), (6, .long q.1), (8, .int q.2)] → W p l e (xRm 20 456 (nf - n0) (sf - s0)) s m args below meth c H locs cells slots Q (F0 m 6 ls [])) :=
  lpw_go _ (fun q => (∀ (H : Heap) (locs : List Loc) (cells slots : Nat) (ls : Array Slot), xR E σ H → va_S (xAA E) s.heap H locs → XN cells slots n0 s0 nf sf σ → lv_has ls 11 [(0, .ref (xo E)), (1, .int y1), (4, .long y4), (6, .long q.1), (8, .int q.2)] → W p l e (xRm 20 456 (nf - n0) (sf - s0)) s m args below meth c H locs cells slots Q (F0 m 6 ls []))) (fun b0 => (∀ b, b0 = b → (∀ (H : Heap) (locs : List Loc) (cells slots : Nat) (ls : Array Slot), xR E σ H → va_S (xAA E) s.heap H locs → XN cells slots n0 s0 nf sf σ → lv_has ls 11 [(0, .ref (xo E)), (1, .int y1), (4, .long y4), (6, .long b)] → W p l e (xRm 20 456 (nf - n0) (sf - s0)) s m args below meth c H locs cells slots Q (F0 m 104 ls [])))) (fun q x hf hK hX => wbLX0_halvesBy_6 S hf hK (fun b eb => (hX _ eb) b rfl)) q res h hE104
set_option maxHeartbeats 4000000 in
set_option maxRecDepth 100000 in
theorem met_X0_halvesBy {l : Launch} {E : xG} {x1 : Int32} {x2 : Int64} {x4 : Int64} {σ : xS} {res : Int32 × xS} (hf : fX0_halvesBy x1 x2 x4 σ = some res) : xMet l yX0_halvesBy cX0_halvesBy 11 (Option.some Jvm.ClassFile.FieldType.int) 20 456 E [.ref (xo E), .int x1, .long x2, .long x4] σ (some (.int res.1)) res.2 := by
  replace hf : ((lpw (LX0_halvesBy_6 x1 x4 σ) (x2, (0 : Int32))).bind (fun b5 => if (lg_cmp (b5 &&& x4) (0 : Int64)) = (0 : Int32) then (some ((b5 ||| x4) ^^^ (-1 : Int64))).bind (fun v6 => (fJ2_bitCount b5).bind (fun v7 => (fX0_paired ((v6 &&& x1.toInt64).toInt32) (((lur v6 (16 : Int32)) &&& x1.toInt64).toInt32) σ).bind (fun e8 => some ((v7 + e8.1), e8.2)))) else some ((1000 : Int32), σ))) = some res := hf
  refine x_start (by decide) (Nat.le_of_ble_eq_true rfl) ?_
  intro p e s m args below meth c S hnm hR hS ls hl
  obtain ⟨hx, hb, hml, hown, hts⟩ := S.1.1
  have hl : lv_has ls 11 [(0, .ref (xo E)), (1, .int x1), (2, .long x2), (4, .long x4)] := hl
  have hn : XN 0 0 (xnx σ) (xns σ) (xnx res.2) (xns res.2) σ := ⟨Nat.zero_add _, Nat.zero_add _, (r0_X0_halvesBy (x1 := x1) (x2 := x2) (x4 := x4) (σ := σ) hf).le.1, (r0_X0_halvesBy (x1 := x1) (x2 := x2) (x4 := x4) (σ := σ) hf).le.2⟩
  refine lv_lload_n hx hb dX0_halvesBy_0 rfl (lv_at hl 2 rfl) ?_
  refine lv_lstore (lv' := [(6, .long x2), (0, .ref (xo E)), (1, .int x1), (2, .long x2), (4, .long x4)]) hx hb dX0_halvesBy_1 hl (by decide) rfl (fun ls hl => ?_)
  refine lv_iconst (v := 0) hx hb dX0_halvesBy_3 (by decide) ?_
  refine lv_istore (lv' := [(8, .int (0 : Int32)), (6, .long x2), (0, .ref (xo E)), (1, .int x1), (2, .long x2), (4, .long x4)]) hx hb dX0_halvesBy_4 hl (by decide) rfl (fun ls hl => ?_)
  refine k_bind hf (fun b5 hb5 hf => ?_)
  refine wLX0_halvesBy_6 S hb5 ?_ _ _ _ _ _ hR hS hn (lv_sub (l' := [(0, .ref (xo E)), (1, .int x1), (4, .long x4), (6, .long x2), (8, .int (0 : Int32))]) hl [2, 3, 5, 1, 0] rfl)
  · intro b eb; subst eb; intro H locs cells slots ls hR hS hn hl
    refine lv_lload hx hb dX0_halvesBy_104 (lv_at hl 3 rfl) ?_
    refine lv_lload hx hb dX0_halvesBy_106 (lv_at hl 2 rfl) ?_
    refine lv_land hx hb dX0_halvesBy_108 ?_
    refine lv_lconst (v := 0) hx hb dX0_halvesBy_109 (by decide) ?_
    refine W.lcmp hx hb dX0_halvesBy_110 ?_
    refine lv_if_eq (tgt := 118) hx hb dX0_halvesBy_111 (by decide) (fun c_111 => ?_) (fun c_111 => ?_)
    · replace hf := o_t hf c_111
      refine lv_lload hx hb dX0_halvesBy_118 (lv_at hl 3 rfl) ?_
      refine lv_lload hx hb dX0_halvesBy_120 (lv_at hl 2 rfl) ?_
      refine lv_lor hx hb dX0_halvesBy_122 ?_
      refine lv_ldc2 hx hb hown (hts _ q267) dX0_halvesBy_123 ?_
      refine lv_lxor hx hb dX0_halvesBy_126 ?_
      refine k_bind hf (fun v6 hv6 hf => ?_)
      refine m_nml hv6 ?_
      refine lv_lstore (lv' := [(8, .long v6), (0, .ref (xo E)), (1, .int x1), (4, .long x4), (6, .long b5)]) hx hb dX0_halvesBy_127 hl (by decide) rfl (fun ls hl => ?_)
      refine lv_lload hx hb dX0_halvesBy_129 (lv_at hl 4 rfl) ?_
      refine k_bind hf (fun v7 hv7 hf => ?_)
      refine s_call (As := [.long b5]) (rest := []) S.1.1 (met_J2_bitCount hv7) wi_J2_bitCount q268 ⟨rfl, rfl⟩ ⟨Nat.le_of_ble_eq_true rfl, Nat.le_of_ble_eq_true rfl⟩ rfl hl.1 rfl (Nat.le_of_ble_eq_true rfl) dX0_halvesBy_131 hn.cs ?_
      refine lv_aload_n hx hb dX0_halvesBy_134 rfl (lv_at hl 1 rfl) ?_
      refine lv_lload hx hb dX0_halvesBy_135 (lv_at hl 0 rfl) ?_
      refine lv_iload_n hx hb dX0_halvesBy_137 rfl (lv_at hl 2 rfl) ?_
      refine lv_i2l hx hb dX0_halvesBy_138 rfl ?_
      refine lv_land hx hb dX0_halvesBy_139 ?_
      refine lv_l2i hx hb dX0_halvesBy_140 rfl ?_
      refine lv_lload hx hb dX0_halvesBy_141 (lv_at hl 0 rfl) ?_
      refine lv_bipush (v := 16) hx hb dX0_halvesBy_143 (by decide) ?_
      refine lv_lushr (v := (lur v6 (16 : Int32))) hx hb dX0_halvesBy_145 rfl ?_
      refine lv_iload_n hx hb dX0_halvesBy_146 rfl (lv_at hl 2 rfl) ?_
      refine lv_i2l hx hb dX0_halvesBy_147 rfl ?_
      refine lv_land hx hb dX0_halvesBy_148 ?_
      refine lv_l2i hx hb dX0_halvesBy_149 rfl ?_
      refine k_bind hf (fun e8 he8 hf => ?_)
      refine x_call (C := RX0) (As := [.int ((v6 &&& x1.toInt64).toInt32), .int (((lur v6 (16 : Int32)) &&& x1.toInt64).toInt32)]) (rest := [.int v7]) S hR hS hn (met_X0_paired he8) (r0_X0_paired he8).le (hn.b (r0_X0_paired he8)) wi_X0_paired (xrc S.2 hR (ci := 0) rfl (Or.inl ⟨rfl, rfl⟩)) rfl q274 ⟨Nat.le_of_ble_eq_true rfl, Nat.le_of_ble_eq_true rfl⟩ rfl hl.1 rfl (Nat.le_of_ble_eq_true rfl) dX0_halvesBy_150 (fun H locs cells slots hR hS hn => ?_)
      refine lv_iadd hx hb dX0_halvesBy_153 ?_
      obtain rfl := Option.some.inj hf
      exact x_iret S hR hS hn rfl dX0_halvesBy_154
    · replace hf := o_f hf c_111
      refine lv_sipush (v := 1000) hx hb dX0_halvesBy_114 (by decide) ?_
      obtain rfl := Option.some.inj hf
      exact x_iret S hR hS hn rfl dX0_halvesBy_117


noncomputable def fX0_halvesOf (x1 : Int32) (σ : xS) : Option (Int32 × xS) :=
  (fX0_halvesBy x1 (0 : Int64) (0 : Int64) σ).bind (fun e1 => some (e1.1, e1.2))
theorem wi_X0_halvesOf : wInfV yX0_halvesOf cX0_halvesOf 2 (Option.some Jvm.ClassFile.FieldType.int) 1 := ⟨q261, qs5, q106, q262, (by decide +kernel), (by decide +kernel), (by decide +kernel)⟩
set_option maxHeartbeats 4000000 in
set_option maxRecDepth 100000 in
theorem r0_X0_halvesOf {x1 : Int32} {σ : xS} {res : Int32 × xS} (hf : fX0_halvesOf x1 σ = some res) : rl0 σ res.2 := by
  replace hf : ((fX0_halvesBy x1 (0 : Int64) (0 : Int64) σ).bind (fun e1 => some (e1.1, e1.2))) = some res := hf
  refine k_bind hf (fun e1 he1 hf => ?_)
  refine rl0.tr (r0_X0_halvesBy he1) ?_
  obtain rfl := Option.some.inj hf
  exact rl0.rf _
set_option maxHeartbeats 4000000 in
set_option maxRecDepth 100000 in
theorem met_X0_halvesOf {l : Launch} {E : xG} {x1 : Int32} {σ : xS} {res : Int32 × xS} (hf : fX0_halvesOf x1 σ = some res) : xMet l yX0_halvesOf cX0_halvesOf 2 (Option.some Jvm.ClassFile.FieldType.int) 21 486 E [.ref (xo E), .int x1] σ (some (.int res.1)) res.2 := by
  replace hf : ((fX0_halvesBy x1 (0 : Int64) (0 : Int64) σ).bind (fun e1 => some (e1.1, e1.2))) = some res := hf
  refine x_start (by decide) (Nat.le_of_ble_eq_true rfl) ?_
  intro p e s m args below meth c S hnm hR hS ls hl
  obtain ⟨hx, hb, hml, hown, hts⟩ := S.1.1
  have hl : lv_has ls 2 [(0, .ref (xo E)), (1, .int x1)] := hl
  have hn : XN 0 0 (xnx σ) (xns σ) (xnx res.2) (xns res.2) σ := ⟨Nat.zero_add _, Nat.zero_add _, (r0_X0_halvesOf (x1 := x1) (σ := σ) hf).le.1, (r0_X0_halvesOf (x1 := x1) (σ := σ) hf).le.2⟩
  refine lv_aload_n hx hb dX0_halvesOf_0 rfl (lv_at hl 0 rfl) ?_
  refine lv_iload_n hx hb dX0_halvesOf_1 rfl (lv_at hl 1 rfl) ?_
  refine lv_lconst (v := 0) hx hb dX0_halvesOf_2 (by decide) ?_
  refine lv_lconst (v := 0) hx hb dX0_halvesOf_3 (by decide) ?_
  refine k_bind hf (fun e1 he1 hf => ?_)
  refine x_call (C := RX0) (As := [.int x1, .long (0 : Int64), .long (0 : Int64)]) (rest := []) S hR hS hn (met_X0_halvesBy he1) (r0_X0_halvesBy he1).le (hn.b (r0_X0_halvesBy he1)) wi_X0_halvesBy (xrc S.2 hR (ci := 0) rfl (Or.inl ⟨rfl, rfl⟩)) rfl q263 ⟨Nat.le_of_ble_eq_true rfl, Nat.le_of_ble_eq_true rfl⟩ rfl hl.1 rfl (Nat.le_of_ble_eq_true rfl) dX0_halvesOf_4 (fun H locs cells slots hR hS hn => ?_)
  obtain rfl := Option.some.inj hf
  exact x_iret S hR hS hn rfl dX0_halvesOf_7


noncomputable def fX0_order (x0 : Int32) : Int32 :=
  if x0 = (0 : Int32) then (0 : Int32) else ((3 : Int32) - x0)
theorem wi_X0_order : wInfS yX0_order cX0_order 1 (Option.some Jvm.ClassFile.FieldType.int) 1 := ⟨q290, q106, q291, (by decide +kernel), (by decide +kernel), (by decide +kernel)⟩
set_option maxHeartbeats 4000000 in
set_option maxRecDepth 100000 in
theorem met_X0_order {l : Launch} {x0 : Int32} {res : Int32} (hf : fX0_order x0 = res) : sMet l yX0_order cX0_order 1 (Option.some Jvm.ClassFile.FieldType.int) (mRm 0 0) [.int x0] (some (.int res)) := by
  replace hf : (if x0 = (0 : Int32) then (0 : Int32) else ((3 : Int32) - x0)) = res := hf
  refine s_start (by decide) (Nat.le_of_ble_eq_true rfl) ?_
  intro p e s m args below meth c S ls hl
  obtain ⟨hx, hb, hml, hown, hts⟩ := S.1
  have hl : lv_has ls 1 [(0, .int x0)] := hl
  refine lv_iload_n hx hb dX0_order_0 rfl (lv_at hl 0 rfl) ?_
  refine lv_if_ne (tgt := 8) hx hb dX0_order_1 (by decide) (fun c_1 => ?_) (fun c_1 => ?_)
  · replace hf := o_f hf c_1
    refine lv_iconst (v := 3) hx hb dX0_order_8 (by decide) ?_
    refine lv_iload_n hx hb dX0_order_9 rfl (lv_at hl 0 rfl) ?_
    refine lv_isub hx hb dX0_order_10 ?_
    subst hf
    exact s_iret S rfl dX0_order_11
  · replace hf := o_t hf c_1
    refine lv_iconst (v := 0) hx hb dX0_order_4 (by decide) ?_
    refine lv_goto (tgt := 11) hx hb dX0_order_5 (by decide) ?_
    subst hf
    exact s_iret S rfl dX0_order_11


noncomputable def fX0_inBy (x0 : Int32) (x1 : Int32) : Int64 :=
  if x1 = (0 : Int32) then (0 : Int64) else if x1 = (1 : Int32) then (lsh (1 : Int64) x0) else ((lsh (1 : Int64) x0) ||| (lsh (1 : Int64) ((16 : Int32) + x0)))
theorem wi_X0_inBy : wInfS yX0_inBy cX0_inBy 2 (Option.some Jvm.ClassFile.FieldType.long) 2 := ⟨q293, q106, q294, (by decide +kernel), (by decide +kernel), (by decide +kernel)⟩
set_option maxHeartbeats 4000000 in
set_option maxRecDepth 100000 in
theorem met_X0_inBy {l : Launch} {x0 : Int32} {x1 : Int32} {res : Int64} (hf : fX0_inBy x0 x1 = res) : sMet l yX0_inBy cX0_inBy 2 (Option.some Jvm.ClassFile.FieldType.long) (mRm 0 0) [.int x0, .int x1] (some (.long res)) := by
  replace hf : (if x1 = (0 : Int32) then (0 : Int64) else if x1 = (1 : Int32) then (lsh (1 : Int64) x0) else ((lsh (1 : Int64) x0) ||| (lsh (1 : Int64) ((16 : Int32) + x0)))) = res := hf
  refine s_start (by decide) (Nat.le_of_ble_eq_true rfl) ?_
  intro p e s m args below meth c S ls hl
  obtain ⟨hx, hb, hml, hown, hts⟩ := S.1
  have hl : lv_has ls 2 [(0, .int x0), (1, .int x1)] := hl
  refine lv_iload_n hx hb dX0_inBy_0 rfl (lv_at hl 1 rfl) ?_
  refine lv_if_ne (tgt := 8) hx hb dX0_inBy_1 (by decide) (fun c_1 => ?_) (fun c_1 => ?_)
  · replace hf := o_f hf c_1
    refine lv_iload_n hx hb dX0_inBy_8 rfl (lv_at hl 1 rfl) ?_
    refine lv_iconst (v := 1) hx hb dX0_inBy_9 (by decide) ?_
    refine lv_icmp_ne (tgt := 19) hx hb dX0_inBy_10 (by decide) (fun c_10 => ?_) (fun c_10 => ?_)
    · replace hf := o_f hf c_10
      refine lv_lconst (v := 1) hx hb dX0_inBy_19 (by decide) ?_
      refine lv_iload_n hx hb dX0_inBy_20 rfl (lv_at hl 0 rfl) ?_
      refine lv_lshl (v := (lsh (1 : Int64) x0)) hx hb dX0_inBy_21 rfl ?_
      refine lv_lconst (v := 1) hx hb dX0_inBy_22 (by decide) ?_
      refine lv_bipush (v := 16) hx hb dX0_inBy_23 (by decide) ?_
      refine lv_iload_n hx hb dX0_inBy_25 rfl (lv_at hl 0 rfl) ?_
      refine lv_iadd hx hb dX0_inBy_26 ?_
      refine lv_lshl (v := (lsh (1 : Int64) ((16 : Int32) + x0))) hx hb dX0_inBy_27 rfl ?_
      refine lv_lor hx hb dX0_inBy_28 ?_
      subst hf
      exact s_lret S dX0_inBy_29
    · replace hf := o_t hf c_10
      refine lv_lconst (v := 1) hx hb dX0_inBy_13 (by decide) ?_
      refine lv_iload_n hx hb dX0_inBy_14 rfl (lv_at hl 0 rfl) ?_
      refine lv_lshl (v := (lsh (1 : Int64) x0)) hx hb dX0_inBy_15 rfl ?_
      refine lv_goto (tgt := 29) hx hb dX0_inBy_16 (by decide) ?_
      subst hf
      exact s_lret S dX0_inBy_29
  · replace hf := o_t hf c_1
    refine lv_lconst (v := 0) hx hb dX0_inBy_4 (by decide) ?_
    refine lv_goto (tgt := 29) hx hb dX0_inBy_5 (by decide) ?_
    subst hf
    exact s_lret S dX0_inBy_29


noncomputable def fX0_outBy (x0 : Int32) (x1 : Int32) : Int64 :=
  if x1 = (2 : Int32) then (0 : Int64) else if x1 = (1 : Int32) then (lsh (1 : Int64) ((16 : Int32) + x0)) else ((lsh (1 : Int64) x0) ||| (lsh (1 : Int64) ((16 : Int32) + x0)))
theorem wi_X0_outBy : wInfS yX0_outBy cX0_outBy 2 (Option.some Jvm.ClassFile.FieldType.long) 2 := ⟨q296, q106, q297, (by decide +kernel), (by decide +kernel), (by decide +kernel)⟩
set_option maxHeartbeats 4000000 in
set_option maxRecDepth 100000 in
theorem met_X0_outBy {l : Launch} {x0 : Int32} {x1 : Int32} {res : Int64} (hf : fX0_outBy x0 x1 = res) : sMet l yX0_outBy cX0_outBy 2 (Option.some Jvm.ClassFile.FieldType.long) (mRm 0 0) [.int x0, .int x1] (some (.long res)) := by
  replace hf : (if x1 = (2 : Int32) then (0 : Int64) else if x1 = (1 : Int32) then (lsh (1 : Int64) ((16 : Int32) + x0)) else ((lsh (1 : Int64) x0) ||| (lsh (1 : Int64) ((16 : Int32) + x0)))) = res := hf
  refine s_start (by decide) (Nat.le_of_ble_eq_true rfl) ?_
  intro p e s m args below meth c S ls hl
  obtain ⟨hx, hb, hml, hown, hts⟩ := S.1
  have hl : lv_has ls 2 [(0, .int x0), (1, .int x1)] := hl
  refine lv_iload_n hx hb dX0_outBy_0 rfl (lv_at hl 1 rfl) ?_
  refine lv_iconst (v := 2) hx hb dX0_outBy_1 (by decide) ?_
  refine lv_icmp_ne (tgt := 9) hx hb dX0_outBy_2 (by decide) (fun c_2 => ?_) (fun c_2 => ?_)
  · replace hf := o_f hf c_2
    refine lv_iload_n hx hb dX0_outBy_9 rfl (lv_at hl 1 rfl) ?_
    refine lv_iconst (v := 1) hx hb dX0_outBy_10 (by decide) ?_
    refine lv_icmp_ne (tgt := 23) hx hb dX0_outBy_11 (by decide) (fun c_11 => ?_) (fun c_11 => ?_)
    · replace hf := o_f hf c_11
      refine lv_lconst (v := 1) hx hb dX0_outBy_23 (by decide) ?_
      refine lv_iload_n hx hb dX0_outBy_24 rfl (lv_at hl 0 rfl) ?_
      refine lv_lshl (v := (lsh (1 : Int64) x0)) hx hb dX0_outBy_25 rfl ?_
      refine lv_lconst (v := 1) hx hb dX0_outBy_26 (by decide) ?_
      refine lv_bipush (v := 16) hx hb dX0_outBy_27 (by decide) ?_
      refine lv_iload_n hx hb dX0_outBy_29 rfl (lv_at hl 0 rfl) ?_
      refine lv_iadd hx hb dX0_outBy_30 ?_
      refine lv_lshl (v := (lsh (1 : Int64) ((16 : Int32) + x0))) hx hb dX0_outBy_31 rfl ?_
      refine lv_lor hx hb dX0_outBy_32 ?_
      subst hf
      exact s_lret S dX0_outBy_33
    · replace hf := o_t hf c_11
      refine lv_lconst (v := 1) hx hb dX0_outBy_14 (by decide) ?_
      refine lv_bipush (v := 16) hx hb dX0_outBy_15 (by decide) ?_
      refine lv_iload_n hx hb dX0_outBy_17 rfl (lv_at hl 0 rfl) ?_
      refine lv_iadd hx hb dX0_outBy_18 ?_
      refine lv_lshl (v := (lsh (1 : Int64) ((16 : Int32) + x0))) hx hb dX0_outBy_19 rfl ?_
      refine lv_goto (tgt := 33) hx hb dX0_outBy_20 (by decide) ?_
      subst hf
      exact s_lret S dX0_outBy_33
  · replace hf := o_t hf c_2
    refine lv_lconst (v := 0) hx hb dX0_outBy_5 (by decide) ?_
    refine lv_goto (tgt := 33) hx hb dX0_outBy_6 (by decide) ?_
    subst hf
    exact s_lret S dX0_outBy_33


noncomputable def LX0_findsHalves_32 (y1 : Int32) (y2 : Int32) (y3 : Int64) (y5 : Int64) (y7 : Int32) (q : Int32 × xS) : Option ((Int32 × xS) ⊕ ((Int32 × xS) ⊕ (xS))) :=
  if (3 : Int32) ≤ q.1 then some (Sum.inr (Sum.inr q.2)) else if (fX0_has y1 y7) = (0 : Int32) then some (Sum.inr (Sum.inr q.2)) else (some (fX0_order q.1)).bind (fun v3 => (fX0_halvesBy y1 (y3 ||| (fX0_inBy y7 v3)) (y5 ||| (fX0_outBy y7 v3)) q.2).bind (fun e4 => if e4.1 = y2 then some (Sum.inr (Sum.inl (v3, e4.2))) else some (Sum.inl (q.1 + (1 : Int32), e4.2))))
noncomputable def LX0_findsHalves_14 (y1 : Int32) (y2 : Int32) (q : Int64 × Int64 × Int32 × xS) : Option ((Int64 × Int64 × Int32 × xS) ⊕ (xS)) :=
  if (12 : Int32) ≤ q.2.2.1 then some (Sum.inr q.2.2.2) else (xsa 2 q.2.2.2 1 q.2.2.1 (-1 : Int32)).bind (fun σ2 => (lpw (LX0_findsHalves_32 y1 y2 q.1 q.2.1 q.2.2.1) ((0 : Int32), σ2)).bind ((fun e => Sum.elim (fun b6 => (some (q.1 ||| (fX0_inBy q.2.2.1 b6.1))).bind (fun v7 => (some (q.2.1 ||| (fX0_outBy q.2.2.1 b6.1))).bind (fun v8 => (xsa 2 b6.2 1 q.2.2.1 b6.1.toInt8.toInt32).bind (fun σ9 => some (Sum.inl (v7, v8, q.2.2.1 + (1 : Int32), σ9)))))) (fun b10 => some (Sum.inl (q.1, q.2.1, q.2.2.1 + (1 : Int32), b10))) e)))
noncomputable def fX0_findsHalves (x1 : Int32) (σ : xS) : Option (Int32 × xS) :=
  (fX0_halvesOf x1 σ).bind (fun e1 => (lpw (LX0_findsHalves_14 x1 e1.1) ((0 : Int64), (0 : Int64), (0 : Int32), e1.2)).bind (fun b11 => some (e1.1, b11)))
theorem wi_X0_findsHalves : wInfV yX0_findsHalves cX0_findsHalves 10 (Option.some Jvm.ClassFile.FieldType.int) 1 := ⟨q257, qs4, q106, q258, (by decide +kernel), (by decide +kernel), (by decide +kernel)⟩
set_option maxHeartbeats 4000000 in
set_option maxRecDepth 100000 in
theorem rsLX0_findsHalves_32 {y1 : Int32} {y2 : Int32} {y3 : Int64} {y5 : Int64} {y7 : Int32} {q : Int32 × xS} {res : (Int32 × xS) ⊕ ((Int32 × xS) ⊕ (xS))} (hf : LX0_findsHalves_32 y1 y2 y3 y5 y7 q = some res) : rl0 q.2 (Sum.elim (fun q => q.2) (fun z => Sum.elim (fun b => b.2) (fun b => b) z) res) := by
  replace hf : (if (3 : Int32) ≤ q.1 then some (Sum.inr (Sum.inr q.2)) else if (fX0_has y1 y7) = (0 : Int32) then some (Sum.inr (Sum.inr q.2)) else (some (fX0_order q.1)).bind (fun v3 => (fX0_halvesBy y1 (y3 ||| (fX0_inBy y7 v3)) (y5 ||| (fX0_outBy y7 v3)) q.2).bind (fun e4 => if e4.1 = y2 then some (Sum.inr (Sum.inl (v3, e4.2))) else some (Sum.inl (q.1 + (1 : Int32), e4.2))))) = some res := hf
  by_cases c0 : (3 : Int32) ≤ q.1
  · replace hf := o_t hf c0
    obtain rfl := Option.some.inj hf
    exact rl0.rf _
  · replace hf := o_f hf c0
    by_cases c0 : (fX0_has y1 y7) = (0 : Int32)
    · replace hf := o_t hf c0
      obtain rfl := Option.some.inj hf
      exact rl0.rf _
    · replace hf := o_f hf c0
      refine k_bind hf (fun v3 hv3 hf => ?_)
      refine k_bind hf (fun e4 he4 hf => ?_)
      refine rl0.tr (r0_X0_halvesBy he4) ?_
      by_cases c0 : e4.1 = y2
      · replace hf := o_t hf c0
        obtain rfl := Option.some.inj hf
        exact rl0.rf _
      · replace hf := o_f hf c0
        obtain rfl := Option.some.inj hf
        exact rl0.rf _
set_option maxHeartbeats 4000000 in
set_option maxRecDepth 100000 in
theorem rLX0_findsHalves_32 {y1 : Int32} {y2 : Int32} {y3 : Int64} {y5 : Int64} {y7 : Int32} {q : Int32 × xS} {b : (Int32 × xS) ⊕ (xS)} (h : lpw (LX0_findsHalves_32 y1 y2 y3 y5 y7) q = some b) : rl0 q.2 ((fun z => Sum.elim (fun b => b.2) (fun b => b) z) b) :=
  lpw_rel _ (fun q => q.2) (fun z => Sum.elim (fun b => b.2) (fun b => b) z) rl0 rl0.tr (fun _ _ hf => rsLX0_findsHalves_32 hf) h
set_option maxHeartbeats 4000000 in
set_option maxRecDepth 100000 in
theorem rsLX0_findsHalves_14 {y1 : Int32} {y2 : Int32} {q : Int64 × Int64 × Int32 × xS} {res : (Int64 × Int64 × Int32 × xS) ⊕ (xS)} (hf : LX0_findsHalves_14 y1 y2 q = some res) : rl0 q.2.2.2 (Sum.elim (fun q => q.2.2.2) (fun b => b) res) := by
  replace hf : (if (12 : Int32) ≤ q.2.2.1 then some (Sum.inr q.2.2.2) else (xsa 2 q.2.2.2 1 q.2.2.1 (-1 : Int32)).bind (fun σ2 => (lpw (LX0_findsHalves_32 y1 y2 q.1 q.2.1 q.2.2.1) ((0 : Int32), σ2)).bind ((fun e => Sum.elim (fun b6 => (some (q.1 ||| (fX0_inBy q.2.2.1 b6.1))).bind (fun v7 => (some (q.2.1 ||| (fX0_outBy q.2.2.1 b6.1))).bind (fun v8 => (xsa 2 b6.2 1 q.2.2.1 b6.1.toInt8.toInt32).bind (fun σ9 => some (Sum.inl (v7, v8, q.2.2.1 + (1 : Int32), σ9)))))) (fun b10 => some (Sum.inl (q.1, q.2.1, q.2.2.1 + (1 : Int32), b10))) e)))) = some res := hf
  by_cases c0 : (12 : Int32) ≤ q.2.2.1
  · replace hf := o_t hf c0
    obtain rfl := Option.some.inj hf
    exact rl0.rf _
  · replace hf := o_f hf c0
    refine k_bind hf (fun σ2 hσ2 hf => ?_)
    refine rl0.tr (r0_sa hσ2) ?_
    refine k_bind hf (fun b5 hb5 hf => ?_)
    refine rl0.tr (rLX0_findsHalves_32 hb5) ?_
    rcases b5 with b6 | b10
    · replace hf := o_l hf
      refine k_bind hf (fun v7 hv7 hf => ?_)
      refine k_bind hf (fun v8 hv8 hf => ?_)
      refine k_bind hf (fun σ9 hσ9 hf => ?_)
      refine rl0.tr (r0_sa hσ9) ?_
      obtain rfl := Option.some.inj hf
      exact rl0.rf _
    · replace hf := o_r hf
      obtain rfl := Option.some.inj hf
      exact rl0.rf _
set_option maxHeartbeats 4000000 in
set_option maxRecDepth 100000 in
theorem rLX0_findsHalves_14 {y1 : Int32} {y2 : Int32} {q : Int64 × Int64 × Int32 × xS} {b : xS} (h : lpw (LX0_findsHalves_14 y1 y2) q = some b) : rl0 q.2.2.2 ((fun b => b) b) :=
  lpw_rel _ (fun q => q.2.2.2) (fun b => b) rl0 rl0.tr (fun _ _ hf => rsLX0_findsHalves_14 hf) h
set_option maxHeartbeats 4000000 in
set_option maxRecDepth 100000 in
theorem r0_X0_findsHalves {x1 : Int32} {σ : xS} {res : Int32 × xS} (hf : fX0_findsHalves x1 σ = some res) : rl0 σ res.2 := by
  replace hf : ((fX0_halvesOf x1 σ).bind (fun e1 => (lpw (LX0_findsHalves_14 x1 e1.1) ((0 : Int64), (0 : Int64), (0 : Int32), e1.2)).bind (fun b11 => some (e1.1, b11)))) = some res := hf
  refine k_bind hf (fun e1 he1 hf => ?_)
  refine rl0.tr (r0_X0_halvesOf he1) ?_
  refine k_bind hf (fun b11 hb11 hf => ?_)
  refine rl0.tr (rLX0_findsHalves_14 hb11) ?_
  obtain rfl := Option.some.inj hf
  exact rl0.rf _
set_option maxHeartbeats 4000000 in
set_option maxRecDepth 100000 in
theorem wbLX0_findsHalves_32 {l : Launch} {E : xG} {p : Program} {e : Env} {s : State} {m : MethodId} {args : Array Value} {below : List Frame} {meth : Method} {c : Code} {Q : State → Prop} {n0 s0 nf sf : Nat} {y1 : Int32} {y2 : Int32} {y3 : Int64} {y5 : Int64} {y7 : Int32} {q : Int32 × xS} {res : (Int32 × xS) ⊕ ((Int32 × xS) ⊕ (xS))} (S : xSt E RX0 p m c cX0_findsHalves 10 s args meth (Option.some Jvm.ClassFile.FieldType.int)) (hf : LX0_findsHalves_32 y1 y2 y3 y5 y7 q = some res) (hK : ∀ q, res = Sum.inl q → (∀ (H : Heap) (locs : List Loc) (cells slots : Nat) (ls : Array Slot), xR E q.2 H → va_S (xAA E) s.heap H locs → XN cells slots n0 s0 nf sf q.2 → lv_has ls 10 [(0, .ref (xo E)), (1, .int y1), (2, .int y2), (3, .long y3), (5, .long y5), (7, .int y7), (8, .int q.1)] → W p l e (xRm 22 507 (nf - n0) (sf - s0)) s m args below meth c H locs cells slots Q (F0 m 32 ls []))) (hE85 : ∀ b, res = Sum.inr (Sum.inl b) → (∀ (H : Heap) (locs : List Loc) (cells slots : Nat) (ls : Array Slot), xR E b.2 H → va_S (xAA E) s.heap H locs → XN cells slots n0 s0 nf sf b.2 → lv_has ls 10 [(0, .ref (xo E)), (1, .int y1), (2, .int y2), (3, .long y3), (5, .long y5), (7, .int y7), (9, .int b.1)] → W p l e (xRm 22 507 (nf - n0) (sf - s0)) s m args below meth c H locs cells slots Q (F0 m 85 ls []))) (hE126 : ∀ b, res = Sum.inr (Sum.inr b) → (∀ (H : Heap) (locs : List Loc) (cells slots : Nat) (ls : Array Slot), xR E b H → va_S (xAA E) s.heap H locs → XN cells slots n0 s0 nf sf b → lv_has ls 10 [(0, .ref (xo E)), (1, .int y1), (2, .int y2), (3, .long y3), (5, .long y5), (7, .int y7)] → W p l e (xRm 22 507 (nf - n0) (sf - s0)) s m args below meth c H locs cells slots Q (F0 m 126 ls []))) : (∀ (H : Heap) (locs : List Loc) (cells slots : Nat) (ls : Array Slot), xR E q.2 H → va_S (xAA E) s.heap H locs → XN cells slots n0 s0 nf sf q.2 → lv_has ls 10 [(0, .ref (xo E)), (1, .int y1), (2, .int y2), (3, .long y3), (5, .long y5), (7, .int y7), (8, .int q.1)] → W p l e (xRm 22 507 (nf - n0) (sf - s0)) s m args below meth c H locs cells slots Q (F0 m 32 ls [])) := by
  replace hf : (if (3 : Int32) ≤ q.1 then some (Sum.inr (Sum.inr q.2)) else if (fX0_has y1 y7) = (0 : Int32) then some (Sum.inr (Sum.inr q.2)) else (some (fX0_order q.1)).bind (fun v3 => (fX0_halvesBy y1 (y3 ||| (fX0_inBy y7 v3)) (y5 ||| (fX0_outBy y7 v3)) q.2).bind (fun e4 => if e4.1 = y2 then some (Sum.inr (Sum.inl (v3, e4.2))) else some (Sum.inl (q.1 + (1 : Int32), e4.2))))) = some res := hf
  obtain ⟨hx, hb, hml, hown, hts⟩ := S.1.1
  intro H locs cells slots ls hR hS hn hl
  refine lv_iload hx hb dX0_findsHalves_32 (lv_at hl 6 rfl) ?_
  refine lv_iconst (v := 3) hx hb dX0_findsHalves_34 (by decide) ?_
  refine lv_icmp_ge (tgt := 126) hx hb dX0_findsHalves_35 (by decide) (fun c_35 => ?_) (fun c_35 => ?_)
  · replace hf := o_t hf c_35
    exact hE126 _ (Option.some.inj hf).symm _ _ _ _ _ hR hS hn (lv_sub (l' := [(0, .ref (xo E)), (1, .int y1), (2, .int y2), (3, .long y3), (5, .long y5), (7, .int y7)]) hl [0, 1, 2, 3, 4, 5] rfl)
  · replace hf := o_f hf c_35
    refine lv_iload_n hx hb dX0_findsHalves_38 rfl (lv_at hl 1 rfl) ?_
    refine lv_iload hx hb dX0_findsHalves_39 (lv_at hl 5 rfl) ?_
    refine s_call (As := [.int y1, .int y7]) (rest := []) S.1.1 (met_X0_has rfl) wi_X0_has q210 ⟨rfl, rfl⟩ ⟨Nat.le_of_ble_eq_true rfl, Nat.le_of_ble_eq_true rfl⟩ rfl hl.1 rfl (Nat.le_of_ble_eq_true rfl) dX0_findsHalves_41 hn.cs ?_
    refine lv_if_eq (tgt := 126) hx hb dX0_findsHalves_44 (by decide) (fun c_44 => ?_) (fun c_44 => ?_)
    · replace hf := o_t hf c_44
      exact hE126 _ (Option.some.inj hf).symm _ _ _ _ _ hR hS hn (lv_sub (l' := [(0, .ref (xo E)), (1, .int y1), (2, .int y2), (3, .long y3), (5, .long y5), (7, .int y7)]) hl [0, 1, 2, 3, 4, 5] rfl)
    · replace hf := o_f hf c_44
      refine lv_iload hx hb dX0_findsHalves_47 (lv_at hl 6 rfl) ?_
      refine s_call (As := [.int q.1]) (rest := []) S.1.1 (met_X0_order rfl) wi_X0_order q289 ⟨rfl, rfl⟩ ⟨Nat.le_of_ble_eq_true rfl, Nat.le_of_ble_eq_true rfl⟩ rfl hl.1 rfl (Nat.le_of_ble_eq_true rfl) dX0_findsHalves_49 hn.cs ?_
      refine k_bind hf (fun v3 hv3 hf => ?_)
      refine m_nmi hv3 ?_
      refine lv_istore (lv' := [(9, .int v3), (0, .ref (xo E)), (1, .int y1), (2, .int y2), (3, .long y3), (5, .long y5), (7, .int y7), (8, .int q.1)]) hx hb dX0_findsHalves_52 hl (by decide) rfl (fun ls hl => ?_)
      refine lv_aload_n hx hb dX0_findsHalves_54 rfl (lv_at hl 1 rfl) ?_
      refine lv_iload_n hx hb dX0_findsHalves_55 rfl (lv_at hl 2 rfl) ?_
      refine lv_lload_n hx hb dX0_findsHalves_56 rfl (lv_at hl 4 rfl) ?_
      refine lv_iload hx hb dX0_findsHalves_57 (lv_at hl 6 rfl) ?_
      refine lv_iload hx hb dX0_findsHalves_59 (lv_at hl 0 rfl) ?_
      refine s_call (As := [.int y7, .int v3]) (rest := [.long y3, .int y1, .ref (xo E)]) S.1.1 (met_X0_inBy rfl) wi_X0_inBy q292 ⟨rfl, rfl⟩ ⟨Nat.le_of_ble_eq_true rfl, Nat.le_of_ble_eq_true rfl⟩ rfl hl.1 rfl (Nat.le_of_ble_eq_true rfl) dX0_findsHalves_61 hn.cs ?_
      refine lv_lor hx hb dX0_findsHalves_64 ?_
      refine lv_lload hx hb dX0_findsHalves_65 (lv_at hl 5 rfl) ?_
      refine lv_iload hx hb dX0_findsHalves_67 (lv_at hl 6 rfl) ?_
      refine lv_iload hx hb dX0_findsHalves_69 (lv_at hl 0 rfl) ?_
      refine s_call (As := [.int y7, .int v3]) (rest := [.long y5, .long (y3 ||| (fX0_inBy y7 v3)), .int y1, .ref (xo E)]) S.1.1 (met_X0_outBy rfl) wi_X0_outBy q295 ⟨rfl, rfl⟩ ⟨Nat.le_of_ble_eq_true rfl, Nat.le_of_ble_eq_true rfl⟩ rfl hl.1 rfl (Nat.le_of_ble_eq_true rfl) dX0_findsHalves_71 hn.cs ?_
      refine lv_lor hx hb dX0_findsHalves_74 ?_
      refine k_bind hf (fun e4 he4 hf => ?_)
      refine x_call (C := RX0) (As := [.int y1, .long (y3 ||| (fX0_inBy y7 v3)), .long (y5 ||| (fX0_outBy y7 v3))]) (rest := []) S hR hS hn (met_X0_halvesBy he4) (r0_X0_halvesBy he4).le (hn.b (r0_X0_halvesBy he4)) wi_X0_halvesBy (xrc S.2 hR (ci := 0) rfl (Or.inl ⟨rfl, rfl⟩)) rfl q263 ⟨Nat.le_of_ble_eq_true rfl, Nat.le_of_ble_eq_true rfl⟩ rfl hl.1 rfl (Nat.le_of_ble_eq_true rfl) dX0_findsHalves_75 (fun H locs cells slots hR hS hn => ?_)
      refine lv_iload_n hx hb dX0_findsHalves_78 rfl (lv_at hl 3 rfl) ?_
      refine lv_icmp_eq (tgt := 85) hx hb dX0_findsHalves_79 (by decide) (fun c_79 => ?_) (fun c_79 => ?_)
      · replace hf := o_t hf c_79
        exact hE85 _ (Option.some.inj hf).symm _ _ _ _ _ hR hS hn (lv_sub (l' := [(0, .ref (xo E)), (1, .int y1), (2, .int y2), (3, .long y3), (5, .long y5), (7, .int y7), (9, .int v3)]) hl [1, 2, 3, 4, 5, 6, 0] rfl)
      · replace hf := o_f hf c_79
        refine lv_goto (tgt := 120) hx hb dX0_findsHalves_82 (by decide) ?_
        refine lv_iinc (lv' := [(8, .int (q.1 + (1 : Int32))), (9, .int v3), (0, .ref (xo E)), (1, .int y1), (2, .int y2), (3, .long y3), (5, .long y5), (7, .int y7)]) hx hb dX0_findsHalves_120 hl (k := 7) rfl (m_inc (by decide)) (by decide) rfl (fun ls hl => ?_)
        refine lv_goto (tgt := 32) hx hb dX0_findsHalves_123 (by decide) ?_
        exact hK _ (Option.some.inj hf).symm _ _ _ _ _ hR hS hn (lv_sub (l' := [(0, .ref (xo E)), (1, .int y1), (2, .int y2), (3, .long y3), (5, .long y5), (7, .int y7), (8, .int (q.1 + (1 : Int32)))]) hl [2, 3, 4, 5, 6, 7, 0] rfl)
set_option maxHeartbeats 4000000 in
set_option maxRecDepth 100000 in
theorem wLX0_findsHalves_32 {l : Launch} {E : xG} {p : Program} {e : Env} {s : State} {m : MethodId} {args : Array Value} {below : List Frame} {meth : Method} {c : Code} {Q : State → Prop} {n0 s0 nf sf : Nat} {y1 : Int32} {y2 : Int32} {y3 : Int64} {y5 : Int64} {y7 : Int32} {q : Int32 × xS} {res : (Int32 × xS) ⊕ (xS)} (S : xSt E RX0 p m c cX0_findsHalves 10 s args meth (Option.some Jvm.ClassFile.FieldType.int)) (h : lpw (LX0_findsHalves_32 y1 y2 y3 y5 y7) q = some res) (hE85 : ∀ b, res = (Sum.inl b) → (∀ (H : Heap) (locs : List Loc) (cells slots : Nat) (ls : Array Slot), xR E b.2 H → va_S (xAA E) s.heap H locs → XN cells slots n0 s0 nf sf b.2 → lv_has ls 10 [(0, .ref (xo E)), (1, .int y1), (2, .int y2), (3, .long y3), (5, .long y5), (7, .int y7), (9, .int b.1)] → W p l e (xRm 22 507 (nf - n0) (sf - s0)) s m args below meth c H locs cells slots Q (F0 m 85 ls []))) (hE126 : ∀ b, res = (Sum.inr b) → (∀ (H : Heap) (locs : List Loc) (cells slots : Nat) (ls : Array Slot), xR E b H → va_S (xAA E) s.heap H locs → XN cells slots n0 s0 nf sf b → lv_has ls 10 [(0, .ref (xo E)), (1, .int y1), (2, .int y2), (3, .long y3), (5, .long y5), (7, .int y7)] → W p l e (xRm 22 507 (nf - n0) (sf - s0)) s m args below meth c H locs cells slots Q (F0 m 126 ls []))) : (∀ (H : Heap) (locs : List Loc) (cells slots : Nat) (ls : Array Slot), xR E q.2 H → va_S (xAA E) s.heap H locs → XN cells slots n0 s0 nf sf q.2 → lv_has ls 10 [(0, .ref (xo E)), (1, .int y1), (2, .int y2), (3, .long y3), (5, .long y5), (7, .int y7), (8, .int q.1)] → W p l e (xRm 22 507 (nf - n0) (sf - s0)) s m args below meth c H locs cells slots Q (F0 m 32 ls [])) :=
  lpw_go _ (fun q => (∀ (H : Heap) (locs : List Loc) (cells slots : Nat) (ls : Array Slot), xR E q.2 H → va_S (xAA E) s.heap H locs → XN cells slots n0 s0 nf sf q.2 → lv_has ls 10 [(0, .ref (xo E)), (1, .int y1), (2, .int y2), (3, .long y3), (5, .long y5), (7, .int y7), (8, .int q.1)] → W p l e (xRm 22 507 (nf - n0) (sf - s0)) s m args below meth c H locs cells slots Q (F0 m 32 ls []))) (fun b0 => (∀ b, b0 = (Sum.inl b) → (∀ (H : Heap) (locs : List Loc) (cells slots : Nat) (ls : Array Slot), xR E b.2 H → va_S (xAA E) s.heap H locs → XN cells slots n0 s0 nf sf b.2 → lv_has ls 10 [(0, .ref (xo E)), (1, .int y1), (2, .int y2), (3, .long y3), (5, .long y5), (7, .int y7), (9, .int b.1)] → W p l e (xRm 22 507 (nf - n0) (sf - s0)) s m args below meth c H locs cells slots Q (F0 m 85 ls []))) ∧ (∀ b, b0 = (Sum.inr b) → (∀ (H : Heap) (locs : List Loc) (cells slots : Nat) (ls : Array Slot), xR E b H → va_S (xAA E) s.heap H locs → XN cells slots n0 s0 nf sf b → lv_has ls 10 [(0, .ref (xo E)), (1, .int y1), (2, .int y2), (3, .long y3), (5, .long y5), (7, .int y7)] → W p l e (xRm 22 507 (nf - n0) (sf - s0)) s m args below meth c H locs cells slots Q (F0 m 126 ls [])))) (fun q x hf hK hX => wbLX0_findsHalves_32 S hf hK (fun b eb => (hX _ eb).1 b rfl) (fun b eb => (hX _ eb).2 b rfl)) q res h ⟨hE85, hE126⟩
set_option maxHeartbeats 4000000 in
set_option maxRecDepth 100000 in
theorem wbLX0_findsHalves_14 {l : Launch} {E : xG} {p : Program} {e : Env} {s : State} {m : MethodId} {args : Array Value} {below : List Frame} {meth : Method} {c : Code} {Q : State → Prop} {n0 s0 nf sf : Nat} {y1 : Int32} {y2 : Int32} {q : Int64 × Int64 × Int32 × xS} {res : (Int64 × Int64 × Int32 × xS) ⊕ (xS)} (S : xSt E RX0 p m c cX0_findsHalves 10 s args meth (Option.some Jvm.ClassFile.FieldType.int)) (hf : LX0_findsHalves_14 y1 y2 q = some res) (hK : ∀ q, res = Sum.inl q → (∀ (H : Heap) (locs : List Loc) (cells slots : Nat) (ls : Array Slot), xR E q.2.2.2 H → va_S (xAA E) s.heap H locs → XN cells slots n0 s0 nf sf q.2.2.2 → lv_has ls 10 [(0, .ref (xo E)), (1, .int y1), (2, .int y2), (3, .long q.1), (5, .long q.2.1), (7, .int q.2.2.1)] → W p l e (xRm 22 507 (nf - n0) (sf - s0)) s m args below meth c H locs cells slots Q (F0 m 14 ls []))) (hE132 : ∀ b, res = Sum.inr b → (∀ (H : Heap) (locs : List Loc) (cells slots : Nat) (ls : Array Slot), xR E b H → va_S (xAA E) s.heap H locs → XN cells slots n0 s0 nf sf b → lv_has ls 10 [(2, .int y2)] → W p l e (xRm 22 507 (nf - n0) (sf - s0)) s m args below meth c H locs cells slots Q (F0 m 132 ls []))) : (∀ (H : Heap) (locs : List Loc) (cells slots : Nat) (ls : Array Slot), xR E q.2.2.2 H → va_S (xAA E) s.heap H locs → XN cells slots n0 s0 nf sf q.2.2.2 → lv_has ls 10 [(0, .ref (xo E)), (1, .int y1), (2, .int y2), (3, .long q.1), (5, .long q.2.1), (7, .int q.2.2.1)] → W p l e (xRm 22 507 (nf - n0) (sf - s0)) s m args below meth c H locs cells slots Q (F0 m 14 ls [])) := by
  replace hf : (if (12 : Int32) ≤ q.2.2.1 then some (Sum.inr q.2.2.2) else (xsa 2 q.2.2.2 1 q.2.2.1 (-1 : Int32)).bind (fun σ2 => (lpw (LX0_findsHalves_32 y1 y2 q.1 q.2.1 q.2.2.1) ((0 : Int32), σ2)).bind ((fun e => Sum.elim (fun b6 => (some (q.1 ||| (fX0_inBy q.2.2.1 b6.1))).bind (fun v7 => (some (q.2.1 ||| (fX0_outBy q.2.2.1 b6.1))).bind (fun v8 => (xsa 2 b6.2 1 q.2.2.1 b6.1.toInt8.toInt32).bind (fun σ9 => some (Sum.inl (v7, v8, q.2.2.1 + (1 : Int32), σ9)))))) (fun b10 => some (Sum.inl (q.1, q.2.1, q.2.2.1 + (1 : Int32), b10))) e)))) = some res := hf
  obtain ⟨hx, hb, hml, hown, hts⟩ := S.1.1
  intro H locs cells slots ls hR hS hn hl
  refine lv_iload hx hb dX0_findsHalves_14 (lv_at hl 5 rfl) ?_
  refine lv_bipush (v := 12) hx hb dX0_findsHalves_16 (by decide) ?_
  refine lv_icmp_ge (tgt := 132) hx hb dX0_findsHalves_18 (by decide) (fun c_18 => ?_) (fun c_18 => ?_)
  · replace hf := o_t hf c_18
    exact hE132 _ (Option.some.inj hf).symm _ _ _ _ _ hR hS hn (lv_sub (l' := [(2, .int y2)]) hl [2] rfl)
  · replace hf := o_f hf c_18
    refine lv_aload_n hx hb dX0_findsHalves_21 rfl (lv_at hl 0 rfl) ?_
    refine x_oget (k := 9) (v := .ref (xar E 1)) S hR (lk_X0_26 _ List.mem_cons_self) rfl dX0_findsHalves_22 ?_
    refine lv_iload hx hb dX0_findsHalves_25 (lv_at hl 5 rfl) ?_
    refine lv_iconst (v := -1) hx hb dX0_findsHalves_27 (by decide) ?_
    refine k_bind hf (fun σ2 hσ2 hf => ?_)
    refine x_ss2 S hR hS hσ2 dX0_findsHalves_28 (fun H locs hR hS => ?_)
    replace hn := hn.to (r0_sa hσ2)
    refine lv_iconst (v := 0) hx hb dX0_findsHalves_29 (by decide) ?_
    refine lv_istore (lv' := [(8, .int (0 : Int32)), (0, .ref (xo E)), (1, .int y1), (2, .int y2), (3, .long q.1), (5, .long q.2.1), (7, .int q.2.2.1)]) hx hb dX0_findsHalves_30 hl (by decide) rfl (fun ls hl => ?_)
    refine k_bind hf (fun b5 hb5 hf => ?_)
    refine wLX0_findsHalves_32 S hb5 ?_ ?_ _ _ _ _ _ hR hS hn (lv_sub (l' := [(0, .ref (xo E)), (1, .int y1), (2, .int y2), (3, .long q.1), (5, .long q.2.1), (7, .int q.2.2.1), (8, .int (0 : Int32))]) hl [1, 2, 3, 4, 5, 6, 0] rfl)
    · intro b6 eb; subst eb; intro H locs cells slots ls hR hS hn hl
      replace hf := o_l hf
      refine lv_lload_n hx hb dX0_findsHalves_85 rfl (lv_at hl 3 rfl) ?_
      refine lv_iload hx hb dX0_findsHalves_86 (lv_at hl 5 rfl) ?_
      refine lv_iload hx hb dX0_findsHalves_88 (lv_at hl 6 rfl) ?_
      refine s_call (As := [.int q.2.2.1, .int b6.1]) (rest := [.long q.1]) S.1.1 (met_X0_inBy rfl) wi_X0_inBy q292 ⟨rfl, rfl⟩ ⟨Nat.le_of_ble_eq_true rfl, Nat.le_of_ble_eq_true rfl⟩ rfl hl.1 rfl (Nat.le_of_ble_eq_true rfl) dX0_findsHalves_90 hn.cs ?_
      refine lv_lor hx hb dX0_findsHalves_93 ?_
      refine k_bind hf (fun v7 hv7 hf => ?_)
      refine m_nml hv7 ?_
      refine lv_lstore_n (lv' := [(3, .long v7), (0, .ref (xo E)), (1, .int y1), (2, .int y2), (5, .long q.2.1), (7, .int q.2.2.1), (9, .int b6.1)]) hx hb dX0_findsHalves_94 rfl hl (by decide) rfl (fun ls hl => ?_)
      refine lv_lload hx hb dX0_findsHalves_95 (lv_at hl 4 rfl) ?_
      refine lv_iload hx hb dX0_findsHalves_97 (lv_at hl 5 rfl) ?_
      refine lv_iload hx hb dX0_findsHalves_99 (lv_at hl 6 rfl) ?_
      refine s_call (As := [.int q.2.2.1, .int b6.1]) (rest := [.long q.2.1]) S.1.1 (met_X0_outBy rfl) wi_X0_outBy q295 ⟨rfl, rfl⟩ ⟨Nat.le_of_ble_eq_true rfl, Nat.le_of_ble_eq_true rfl⟩ rfl hl.1 rfl (Nat.le_of_ble_eq_true rfl) dX0_findsHalves_101 hn.cs ?_
      refine lv_lor hx hb dX0_findsHalves_104 ?_
      refine k_bind hf (fun v8 hv8 hf => ?_)
      refine m_nml hv8 ?_
      refine lv_lstore (lv' := [(5, .long v8), (3, .long v7), (0, .ref (xo E)), (1, .int y1), (2, .int y2), (7, .int q.2.2.1), (9, .int b6.1)]) hx hb dX0_findsHalves_105 hl (by decide) rfl (fun ls hl => ?_)
      refine lv_aload_n hx hb dX0_findsHalves_107 rfl (lv_at hl 2 rfl) ?_
      refine x_oget (k := 9) (v := .ref (xar E 1)) S hR (lk_X0_26 _ List.mem_cons_self) rfl dX0_findsHalves_108 ?_
      refine lv_iload hx hb dX0_findsHalves_111 (lv_at hl 5 rfl) ?_
      refine lv_iload hx hb dX0_findsHalves_113 (lv_at hl 6 rfl) ?_
      refine lv_i2b hx hb dX0_findsHalves_115 rfl ?_
      refine k_bind hf (fun σ9 hσ9 hf => ?_)
      refine x_ss2 S hR hS hσ9 dX0_findsHalves_116 (fun H locs hR hS => ?_)
      replace hn := hn.to (r0_sa hσ9)
      refine lv_goto (tgt := 126) hx hb dX0_findsHalves_117 (by decide) ?_
      refine lv_iinc (lv' := [(7, .int (q.2.2.1 + (1 : Int32))), (5, .long v8), (3, .long v7), (0, .ref (xo E)), (1, .int y1), (2, .int y2), (9, .int b6.1)]) hx hb dX0_findsHalves_126 hl (k := 5) rfl (m_inc (by decide)) (by decide) rfl (fun ls hl => ?_)
      refine lv_goto (tgt := 14) hx hb dX0_findsHalves_129 (by decide) ?_
      exact hK _ (Option.some.inj hf).symm _ _ _ _ _ hR hS hn (lv_sub (l' := [(0, .ref (xo E)), (1, .int y1), (2, .int y2), (3, .long v7), (5, .long v8), (7, .int (q.2.2.1 + (1 : Int32)))]) hl [3, 4, 5, 2, 1, 0] rfl)
    · intro b10 eb; subst eb; intro H locs cells slots ls hR hS hn hl
      replace hf := o_r hf
      refine lv_iinc (lv' := [(7, .int (q.2.2.1 + (1 : Int32))), (0, .ref (xo E)), (1, .int y1), (2, .int y2), (3, .long q.1), (5, .long q.2.1)]) hx hb dX0_findsHalves_126 hl (k := 5) rfl (m_inc (by decide)) (by decide) rfl (fun ls hl => ?_)
      refine lv_goto (tgt := 14) hx hb dX0_findsHalves_129 (by decide) ?_
      exact hK _ (Option.some.inj hf).symm _ _ _ _ _ hR hS hn (lv_sub (l' := [(0, .ref (xo E)), (1, .int y1), (2, .int y2), (3, .long q.1), (5, .long q.2.1), (7, .int (q.2.2.1 + (1 : Int32)))]) hl [1, 2, 3, 4, 5, 0] rfl)
set_option maxHeartbeats 4000000 in
set_option maxRecDepth 100000 in
theorem wLX0_findsHalves_14 {l : Launch} {E : xG} {p : Program} {e : Env} {s : State} {m : MethodId} {args : Array Value} {below : List Frame} {meth : Method} {c : Code} {Q : State → Prop} {n0 s0 nf sf : Nat} {y1 : Int32} {y2 : Int32} {q : Int64 × Int64 × Int32 × xS} {res : xS} (S : xSt E RX0 p m c cX0_findsHalves 10 s args meth (Option.some Jvm.ClassFile.FieldType.int)) (h : lpw (LX0_findsHalves_14 y1 y2) q = some res) (hE132 : ∀ b, res = b → (∀ (H : Heap) (locs : List Loc) (cells slots : Nat) (ls : Array Slot), xR E b H → va_S (xAA E) s.heap H locs → XN cells slots n0 s0 nf sf b → lv_has ls 10 [(2, .int y2)] → W p l e (xRm 22 507 (nf - n0) (sf - s0)) s m args below meth c H locs cells slots Q (F0 m 132 ls []))) : (∀ (H : Heap) (locs : List Loc) (cells slots : Nat) (ls : Array Slot), xR E q.2.2.2 H → va_S (xAA E) s.heap H locs → XN cells slots n0 s0 nf sf q.2.2.2 → lv_has ls 10 [(0, .ref (xo E)), (1, .int y1), (2, .int y2), (3, .long q.1), (5, .long q.2.1), (7, .int q.2.2.1)] → W p l e (xRm 22 507 (nf - n0) (sf - s0)) s m args below meth c H locs cells slots Q (F0 m 14 ls [])) :=
  lpw_go _ (fun q => (∀ (H : Heap) (locs : List Loc) (cells slots : Nat) (ls : Array Slot), xR E q.2.2.2 H → va_S (xAA E) s.heap H locs → XN cells slots n0 s0 nf sf q.2.2.2 → lv_has ls 10 [(0, .ref (xo E)), (1, .int y1), (2, .int y2), (3, .long q.1), (5, .long q.2.1), (7, .int q.2.2.1)] → W p l e (xRm 22 507 (nf - n0) (sf - s0)) s m args below meth c H locs cells slots Q (F0 m 14 ls []))) (fun b0 => (∀ b, b0 = b → (∀ (H : Heap) (locs : List Loc) (cells slots : Nat) (ls : Array Slot), xR E b H → va_S (xAA E) s.heap H locs → XN cells slots n0 s0 nf sf b → lv_has ls 10 [(2, .int y2)] → W p l e (xRm 22 507 (nf - n0) (sf - s0)) s m args below meth c H locs cells slots Q (F0 m 132 ls [])))) (fun q x hf hK hX => wbLX0_findsHalves_14 S hf hK (fun b eb => (hX _ eb) b rfl)) q res h hE132
set_option maxHeartbeats 4000000 in
set_option maxRecDepth 100000 in
theorem met_X0_findsHalves {l : Launch} {E : xG} {x1 : Int32} {σ : xS} {res : Int32 × xS} (hf : fX0_findsHalves x1 σ = some res) : xMet l yX0_findsHalves cX0_findsHalves 10 (Option.some Jvm.ClassFile.FieldType.int) 22 507 E [.ref (xo E), .int x1] σ (some (.int res.1)) res.2 := by
  replace hf : ((fX0_halvesOf x1 σ).bind (fun e1 => (lpw (LX0_findsHalves_14 x1 e1.1) ((0 : Int64), (0 : Int64), (0 : Int32), e1.2)).bind (fun b11 => some (e1.1, b11)))) = some res := hf
  refine x_start (by decide) (Nat.le_of_ble_eq_true rfl) ?_
  intro p e s m args below meth c S hnm hR hS ls hl
  obtain ⟨hx, hb, hml, hown, hts⟩ := S.1.1
  have hl : lv_has ls 10 [(0, .ref (xo E)), (1, .int x1)] := hl
  have hn : XN 0 0 (xnx σ) (xns σ) (xnx res.2) (xns res.2) σ := ⟨Nat.zero_add _, Nat.zero_add _, (r0_X0_findsHalves (x1 := x1) (σ := σ) hf).le.1, (r0_X0_findsHalves (x1 := x1) (σ := σ) hf).le.2⟩
  refine lv_aload_n hx hb dX0_findsHalves_0 rfl (lv_at hl 0 rfl) ?_
  refine lv_iload_n hx hb dX0_findsHalves_1 rfl (lv_at hl 1 rfl) ?_
  refine k_bind hf (fun e1 he1 hf => ?_)
  refine x_call (C := RX0) (As := [.int x1]) (rest := []) S hR hS hn (met_X0_halvesOf he1) (r0_X0_halvesOf he1).le (hn.b (r0_X0_halvesOf he1)) wi_X0_halvesOf (xrc S.2 hR (ci := 0) rfl (Or.inl ⟨rfl, rfl⟩)) rfl q259 ⟨Nat.le_of_ble_eq_true rfl, Nat.le_of_ble_eq_true rfl⟩ rfl hl.1 rfl (Nat.le_of_ble_eq_true rfl) dX0_findsHalves_2 (fun H locs cells slots hR hS hn => ?_)
  refine lv_istore_n (lv' := [(2, .int e1.1), (0, .ref (xo E)), (1, .int x1)]) hx hb dX0_findsHalves_5 rfl hl (by decide) rfl (fun ls hl => ?_)
  refine lv_lconst (v := 0) hx hb dX0_findsHalves_6 (by decide) ?_
  refine lv_lstore_n (lv' := [(3, .long (0 : Int64)), (2, .int e1.1), (0, .ref (xo E)), (1, .int x1)]) hx hb dX0_findsHalves_7 rfl hl (by decide) rfl (fun ls hl => ?_)
  refine lv_lconst (v := 0) hx hb dX0_findsHalves_8 (by decide) ?_
  refine lv_lstore (lv' := [(5, .long (0 : Int64)), (3, .long (0 : Int64)), (2, .int e1.1), (0, .ref (xo E)), (1, .int x1)]) hx hb dX0_findsHalves_9 hl (by decide) rfl (fun ls hl => ?_)
  refine lv_iconst (v := 0) hx hb dX0_findsHalves_11 (by decide) ?_
  refine lv_istore (lv' := [(7, .int (0 : Int32)), (5, .long (0 : Int64)), (3, .long (0 : Int64)), (2, .int e1.1), (0, .ref (xo E)), (1, .int x1)]) hx hb dX0_findsHalves_12 hl (by decide) rfl (fun ls hl => ?_)
  refine k_bind hf (fun b11 hb11 hf => ?_)
  refine wLX0_findsHalves_14 S hb11 ?_ _ _ _ _ _ hR hS hn (lv_sub (l' := [(0, .ref (xo E)), (1, .int x1), (2, .int e1.1), (3, .long (0 : Int64)), (5, .long (0 : Int64)), (7, .int (0 : Int32))]) hl [4, 5, 3, 2, 1, 0] rfl)
  · intro b eb; subst eb; intro H locs cells slots ls hR hS hn hl
    refine lv_iload_n hx hb dX0_findsHalves_132 rfl (lv_at hl 0 rfl) ?_
    obtain rfl := Option.some.inj hf
    exact x_iret S hR hS hn rfl dX0_findsHalves_133


noncomputable def LX0_with_4 (y1 : Int32) (σ : xS) (q : Int32 × Int32) : Option ((Int32 × Int32) ⊕ (Int32)) :=
  if (12 : Int32) ≤ q.2 then some (Sum.inr q.1) else (xla 2 σ 1 q.2).bind (fun v1 => if v1 = y1 then (some (q.1 ||| (ish (1 : Int32) q.2))).bind (fun v3 => some (Sum.inl (v3, q.2 + (1 : Int32)))) else (some (q.1 ||| (0 : Int32))).bind (fun v2 => some (Sum.inl (v2, q.2 + (1 : Int32)))))
noncomputable def fX0_with (x1 : Int32) (σ : xS) : Option (Int32) :=
  (lpw (LX0_with_4 x1 σ) ((0 : Int32), (0 : Int32))).bind (fun b4 => some b4)
theorem wi_X0_with : wInfV yX0_with cX0_with 4 (Option.some Jvm.ClassFile.FieldType.int) 1 := ⟨q300, qs9, q106, q301, (by decide +kernel), (by decide +kernel), (by decide +kernel)⟩
set_option maxHeartbeats 4000000 in
set_option maxRecDepth 100000 in
theorem wbLX0_with_4 {l : Launch} {E : xG} {p : Program} {e : Env} {s : State} {m : MethodId} {args : Array Value} {below : List Frame} {meth : Method} {c : Code} {Q : State → Prop} {n0 s0 nf sf : Nat} {y1 : Int32} {σ : xS} {q : Int32 × Int32} {res : (Int32 × Int32) ⊕ (Int32)} (S : xSt E RX0 p m c cX0_with 4 s args meth (Option.some Jvm.ClassFile.FieldType.int)) (hf : LX0_with_4 y1 σ q = some res) (hK : ∀ q, res = Sum.inl q → (∀ (H : Heap) (locs : List Loc) (cells slots : Nat) (ls : Array Slot), xR E σ H → va_S (xAA E) s.heap H locs → XN cells slots n0 s0 nf sf σ → lv_has ls 4 [(0, .ref (xo E)), (1, .int y1), (2, .int q.1), (3, .int q.2)] → W p l e (xRm 0 0 (nf - n0) (sf - s0)) s m args below meth c H locs cells slots Q (F0 m 4 ls []))) (hE36 : ∀ b, res = Sum.inr b → (∀ (H : Heap) (locs : List Loc) (cells slots : Nat) (ls : Array Slot), xR E σ H → va_S (xAA E) s.heap H locs → XN cells slots n0 s0 nf sf σ → lv_has ls 4 [(2, .int b)] → W p l e (xRm 0 0 (nf - n0) (sf - s0)) s m args below meth c H locs cells slots Q (F0 m 36 ls []))) : (∀ (H : Heap) (locs : List Loc) (cells slots : Nat) (ls : Array Slot), xR E σ H → va_S (xAA E) s.heap H locs → XN cells slots n0 s0 nf sf σ → lv_has ls 4 [(0, .ref (xo E)), (1, .int y1), (2, .int q.1), (3, .int q.2)] → W p l e (xRm 0 0 (nf - n0) (sf - s0)) s m args below meth c H locs cells slots Q (F0 m 4 ls [])) := by
  replace hf : (if (12 : Int32) ≤ q.2 then some (Sum.inr q.1) else (xla 2 σ 1 q.2).bind (fun v1 => if v1 = y1 then (some (q.1 ||| (ish (1 : Int32) q.2))).bind (fun v3 => some (Sum.inl (v3, q.2 + (1 : Int32)))) else (some (q.1 ||| (0 : Int32))).bind (fun v2 => some (Sum.inl (v2, q.2 + (1 : Int32)))))) = some res := hf
  obtain ⟨hx, hb, hml, hown, hts⟩ := S.1.1
  intro H locs cells slots ls hR hS hn hl
  refine lv_iload_n hx hb dX0_with_4 rfl (lv_at hl 3 rfl) ?_
  refine lv_bipush (v := 12) hx hb dX0_with_5 (by decide) ?_
  refine lv_icmp_ge (tgt := 36) hx hb dX0_with_7 (by decide) (fun c_7 => ?_) (fun c_7 => ?_)
  · replace hf := o_t hf c_7
    exact hE36 _ (Option.some.inj hf).symm _ _ _ _ _ hR hS hn (lv_sub (l' := [(2, .int q.1)]) hl [2] rfl)
  · replace hf := o_f hf c_7
    refine lv_iload_n hx hb dX0_with_10 rfl (lv_at hl 2 rfl) ?_
    refine lv_aload_n hx hb dX0_with_11 rfl (lv_at hl 0 rfl) ?_
    refine x_oget (k := 9) (v := .ref (xar E 1)) S hR (lk_X0_26 _ List.mem_cons_self) rfl dX0_with_12 ?_
    refine lv_iload_n hx hb dX0_with_15 rfl (lv_at hl 3 rfl) ?_
    refine k_bind hf (fun v1 hv1 hf => ?_)
    refine x_sl2 S hR hv1 dX0_with_16 ?_
    refine lv_iload_n hx hb dX0_with_17 rfl (lv_at hl 1 rfl) ?_
    refine lv_icmp_ne (tgt := 27) hx hb dX0_with_18 (by decide) (fun c_18 => ?_) (fun c_18 => ?_)
    · replace hf := o_f hf c_18
      refine lv_iconst (v := 0) hx hb dX0_with_27 (by decide) ?_
      refine lv_ior hx hb dX0_with_28 ?_
      refine k_bind hf (fun v2 hv2 hf => ?_)
      refine m_nmi hv2 ?_
      refine lv_istore_n (lv' := [(2, .int v2), (0, .ref (xo E)), (1, .int y1), (3, .int q.2)]) hx hb dX0_with_29 rfl hl (by decide) rfl (fun ls hl => ?_)
      refine lv_iinc (lv' := [(3, .int (q.2 + (1 : Int32))), (2, .int v2), (0, .ref (xo E)), (1, .int y1)]) hx hb dX0_with_30 hl (k := 3) rfl (m_inc (by decide)) (by decide) rfl (fun ls hl => ?_)
      refine lv_goto (tgt := 4) hx hb dX0_with_33 (by decide) ?_
      exact hK _ (Option.some.inj hf).symm _ _ _ _ _ hR hS hn (lv_sub (l' := [(0, .ref (xo E)), (1, .int y1), (2, .int v2), (3, .int (q.2 + (1 : Int32)))]) hl [2, 3, 1, 0] rfl)
    · replace hf := o_t hf c_18
      refine lv_iconst (v := 1) hx hb dX0_with_21 (by decide) ?_
      refine lv_iload_n hx hb dX0_with_22 rfl (lv_at hl 3 rfl) ?_
      refine lv_ishl hx hb dX0_with_23 ?_
      refine lv_goto (tgt := 28) hx hb dX0_with_24 (by decide) ?_
      refine lv_ior hx hb dX0_with_28 ?_
      refine k_bind hf (fun v3 hv3 hf => ?_)
      refine m_nmi hv3 ?_
      refine lv_istore_n (lv' := [(2, .int v3), (0, .ref (xo E)), (1, .int y1), (3, .int q.2)]) hx hb dX0_with_29 rfl hl (by decide) rfl (fun ls hl => ?_)
      refine lv_iinc (lv' := [(3, .int (q.2 + (1 : Int32))), (2, .int v3), (0, .ref (xo E)), (1, .int y1)]) hx hb dX0_with_30 hl (k := 3) rfl (m_inc (by decide)) (by decide) rfl (fun ls hl => ?_)
      refine lv_goto (tgt := 4) hx hb dX0_with_33 (by decide) ?_
      exact hK _ (Option.some.inj hf).symm _ _ _ _ _ hR hS hn (lv_sub (l' := [(0, .ref (xo E)), (1, .int y1), (2, .int v3), (3, .int (q.2 + (1 : Int32)))]) hl [2, 3, 1, 0] rfl)
set_option maxHeartbeats 4000000 in
set_option maxRecDepth 100000 in
theorem wLX0_with_4 {l : Launch} {E : xG} {p : Program} {e : Env} {s : State} {m : MethodId} {args : Array Value} {below : List Frame} {meth : Method} {c : Code} {Q : State → Prop} {n0 s0 nf sf : Nat} {y1 : Int32} {σ : xS} {q : Int32 × Int32} {res : Int32} (S : xSt E RX0 p m c cX0_with 4 s args meth (Option.some Jvm.ClassFile.FieldType.int)) (h : lpw (LX0_with_4 y1 σ) q = some res) (hE36 : ∀ b, res = b → (∀ (H : Heap) (locs : List Loc) (cells slots : Nat) (ls : Array Slot), xR E σ H → va_S (xAA E) s.heap H locs → XN cells slots n0 s0 nf sf σ → lv_has ls 4 [(2, .int b)] → W p l e (xRm 0 0 (nf - n0) (sf - s0)) s m args below meth c H locs cells slots Q (F0 m 36 ls []))) : (∀ (H : Heap) (locs : List Loc) (cells slots : Nat) (ls : Array Slot), xR E σ H → va_S (xAA E) s.heap H locs → XN cells slots n0 s0 nf sf σ → lv_has ls 4 [(0, .ref (xo E)), (1, .int y1), (2, .int q.1), (3, .int q.2)] → W p l e (xRm 0 0 (nf - n0) (sf - s0)) s m args below meth c H locs cells slots Q (F0 m 4 ls [])) :=
  lpw_go _ (fun q => (∀ (H : Heap) (locs : List Loc) (cells slots : Nat) (ls : Array Slot), xR E σ H → va_S (xAA E) s.heap H locs → XN cells slots n0 s0 nf sf σ → lv_has ls 4 [(0, .ref (xo E)), (1, .int y1), (2, .int q.1), (3, .int q.2)] → W p l e (xRm 0 0 (nf - n0) (sf - s0)) s m args below meth c H locs cells slots Q (F0 m 4 ls []))) (fun b0 => (∀ b, b0 = b → (∀ (H : Heap) (locs : List Loc) (cells slots : Nat) (ls : Array Slot), xR E σ H → va_S (xAA E) s.heap H locs → XN cells slots n0 s0 nf sf σ → lv_has ls 4 [(2, .int b)] → W p l e (xRm 0 0 (nf - n0) (sf - s0)) s m args below meth c H locs cells slots Q (F0 m 36 ls [])))) (fun q x hf hK hX => wbLX0_with_4 S hf hK (fun b eb => (hX _ eb) b rfl)) q res h hE36
set_option maxHeartbeats 4000000 in
set_option maxRecDepth 100000 in
theorem met_X0_with {l : Launch} {E : xG} {x1 : Int32} {σ : xS} {res : Int32} (hf : fX0_with x1 σ = some res) : xMet l yX0_with cX0_with 4 (Option.some Jvm.ClassFile.FieldType.int) 0 0 E [.ref (xo E), .int x1] σ (some (.int res)) σ := by
  replace hf : ((lpw (LX0_with_4 x1 σ) ((0 : Int32), (0 : Int32))).bind (fun b4 => some b4)) = some res := hf
  refine x_start (by decide) (Nat.le_of_ble_eq_true rfl) ?_
  intro p e s m args below meth c S hnm hR hS ls hl
  obtain ⟨hx, hb, hml, hown, hts⟩ := S.1.1
  have hl : lv_has ls 4 [(0, .ref (xo E)), (1, .int x1)] := hl
  have hn : XN 0 0 (xnx σ) (xns σ) (xnx σ) (xns σ) σ := ⟨Nat.zero_add _, Nat.zero_add _, (rl1.rf σ).1, (rl1.rf σ).2⟩
  refine lv_iconst (v := 0) hx hb dX0_with_0 (by decide) ?_
  refine lv_istore_n (lv' := [(2, .int (0 : Int32)), (0, .ref (xo E)), (1, .int x1)]) hx hb dX0_with_1 rfl hl (by decide) rfl (fun ls hl => ?_)
  refine lv_iconst (v := 0) hx hb dX0_with_2 (by decide) ?_
  refine lv_istore_n (lv' := [(3, .int (0 : Int32)), (2, .int (0 : Int32)), (0, .ref (xo E)), (1, .int x1)]) hx hb dX0_with_3 rfl hl (by decide) rfl (fun ls hl => ?_)
  refine k_bind hf (fun b4 hb4 hf => ?_)
  refine wLX0_with_4 S hb4 ?_ _ _ _ _ _ hR hS hn (lv_sub (l' := [(0, .ref (xo E)), (1, .int x1), (2, .int (0 : Int32)), (3, .int (0 : Int32))]) hl [2, 3, 1, 0] rfl)
  · intro b eb; subst eb; intro H locs cells slots ls hR hS hn hl
    refine lv_iload_n hx hb dX0_with_36 rfl (lv_at hl 0 rfl) ?_
    obtain rfl := Option.some.inj hf
    exact x_iret S hR hS hn rfl dX0_with_37
