/-! the component, walked: X0_seed X1_draw X1_deals X0_deal X0_lays X0_sortOf X0_load X0_isHalf -/
theorem pt_X0_171 : ∀ q ∈ ([(1, 3)] : List (Nat × Nat)), wLkN RX0 171 q.1 q.2 ∧ wPt q.1 q.2 .int false RX0 := List.forall_mem_cons.mpr ⟨⟨⟨RX1, TX1, 4, "LinesTouched", rfl, by decide, in_X1, q194⟩, ⟨RX1, TX1, 4, tyX1, rfl, by decide, rfl, by decide +kernel, nmX1, tyX1_ok, fun h => absurd h (by decide)⟩⟩, fun _ h => absurd h List.not_mem_nil⟩
noncomputable def fX0_seed (x1 : Int32) (σ : xS) : Option (Int32 × xS) :=
  (some (xN σ (0 : Fin 3) 3)).bind (fun v1 => (xpN σ (0 : Fin 3) 3 x1).bind (fun σ2 => some (v1, σ2)))
theorem wi_X0_seed : wInfV yX0_seed cX0_seed 3 (Option.some Jvm.ClassFile.FieldType.int) 1 := ⟨q2366, q2367, q106, q2368, (by decide +kernel), (by decide +kernel), (by decide +kernel)⟩
set_option maxHeartbeats 4000000 in
set_option maxRecDepth 100000 in
theorem r0_X0_seed {x1 : Int32} {σ : xS} {res : Int32 × xS} (hf : fX0_seed x1 σ = some res) : rl0 σ res.2 := by
  replace hf : ((some (xN σ (0 : Fin 3) 3)).bind (fun v1 => (xpN σ (0 : Fin 3) 3 x1).bind (fun σ2 => some (v1, σ2)))) = some res := hf
  refine k_bind hf (fun v1 hv1 hf => ?_)
  refine k_bind hf (fun σ2 hσ2 hf => ?_)
  refine rl0.tr (r0_pN hσ2) ?_
  obtain rfl := Option.some.inj hf
  exact rl0.rf _
set_option maxHeartbeats 4000000 in
set_option maxRecDepth 100000 in
theorem met_X0_seed {l : Launch} {E : xG} {x1 : Int32} {σ : xS} {res : Int32 × xS} (hf : fX0_seed x1 σ = some res) : xMet l yX0_seed cX0_seed 3 (Option.some Jvm.ClassFile.FieldType.int) 0 0 E [.ref (xo E), .int x1] σ (some (.int res.1)) res.2 := by
  replace hf : ((some (xN σ (0 : Fin 3) 3)).bind (fun v1 => (xpN σ (0 : Fin 3) 3 x1).bind (fun σ2 => some (v1, σ2)))) = some res := hf
  refine x_start (by decide) (Nat.le_of_ble_eq_true rfl) ?_
  intro p e s m args below meth c S hnm hR hS ls hl
  obtain ⟨hx, hb, hml, hown, hts⟩ := S.1.1
  have hl : lv_has ls 3 [(0, .ref (xo E)), (1, .int x1)] := hl
  have hn : XN 0 0 (xnx σ) (xns σ) (xnx res.2) (xns res.2) σ := ⟨Nat.zero_add _, Nat.zero_add _, (r0_X0_seed (x1 := x1) (σ := σ) hf).le.1, (r0_X0_seed (x1 := x1) (σ := σ) hf).le.2⟩
  refine lv_aload_n hx hb dX0_seed_0 rfl (lv_at hl 0 rfl) ?_
  refine x_oget (k := 0) (v := .ref (xnt E (0 : Fin 3))) S hR (lk_X0_10 _ List.mem_cons_self) rfl dX0_seed_1 ?_
  refine x_ngetN (j := (0 : Fin 3)) (k := 3) (v := .int (xN σ (0 : Fin 3) 3)) S hR (lk_X0_171 _ List.mem_cons_self) rfl dX0_seed_4 ?_
  refine k_bind hf (fun v1 hv1 hf => ?_)
  refine m_nmi hv1 ?_
  refine lv_istore_n (lv' := [(2, .int v1), (0, .ref (xo E)), (1, .int x1)]) hx hb dX0_seed_7 rfl hl (by decide) rfl (fun ls hl => ?_)
  refine lv_aload_n hx hb dX0_seed_8 rfl (lv_at hl 1 rfl) ?_
  refine x_oget (k := 0) (v := .ref (xnt E (0 : Fin 3))) S hR (lk_X0_10 _ List.mem_cons_self) rfl dX0_seed_9 ?_
  refine lv_iload_n hx hb dX0_seed_12 rfl (lv_at hl 2 rfl) ?_
  refine k_bind hf (fun σ2 hσ2 hf => ?_)
  refine x_nputN (k := 3) S hR hS hσ2 (by decide) (pt_X0_171 _ List.mem_cons_self).1 (pt_X0_171 _ List.mem_cons_self).2 dX0_seed_13 (fun H locs hR hS => ?_)
  replace hn := hn.to (r0_pN hσ2)
  refine lv_iload_n hx hb dX0_seed_16 rfl (lv_at hl 0 rfl) ?_
  obtain rfl := Option.some.inj hf
  exact x_iret S hR hS hn rfl dX0_seed_17


noncomputable def fX1_draw (j : Fin 3) (σ : xS) : Option (Int32 × xS) :=
  (xpN σ j 3 (((xN σ j 3) * (1103515245 : Int32)) + (12345 : Int32))).bind (fun σ1 => some ((iur (xN σ1 j 3) (16 : Int32)), σ1))
theorem wi_X1_draw : wInfV yX1_draw cX1_draw 1 (Option.some Jvm.ClassFile.FieldType.int) 0 := ⟨q2378, q2379, q107, q2380, (by decide +kernel), (by decide +kernel), (by decide +kernel)⟩
set_option maxHeartbeats 4000000 in
set_option maxRecDepth 100000 in
theorem r0_X1_draw {j : Fin 3} {σ : xS} {res : Int32 × xS} (hf : fX1_draw j σ = some res) : rl0 σ res.2 := by
  replace hf : ((xpN σ j 3 (((xN σ j 3) * (1103515245 : Int32)) + (12345 : Int32))).bind (fun σ1 => some ((iur (xN σ1 j 3) (16 : Int32)), σ1))) = some res := hf
  refine k_bind hf (fun σ1 hσ1 hf => ?_)
  refine rl0.tr (r0_pN hσ1) ?_
  obtain rfl := Option.some.inj hf
  exact rl0.rf _
set_option maxHeartbeats 4000000 in
set_option maxRecDepth 100000 in
theorem met_X1_draw {l : Launch} {E : xG} {j : Fin 3} {σ : xS} {res : Int32 × xS} (hf : fX1_draw j σ = some res) : xMet l yX1_draw cX1_draw 1 (Option.some Jvm.ClassFile.FieldType.int) 0 0 E [.ref (xnt E j)] σ (some (.int res.1)) res.2 := by
  replace hf : ((xpN σ j 3 (((xN σ j 3) * (1103515245 : Int32)) + (12345 : Int32))).bind (fun σ1 => some ((iur (xN σ1 j 3) (16 : Int32)), σ1))) = some res := hf
  refine x_start (by decide) (Nat.le_of_ble_eq_true rfl) ?_
  intro p e s m args below meth c S hnm hR hS ls hl
  obtain ⟨hx, hb, hml, hown, hts⟩ := S.1.1
  have hl : lv_has ls 1 [(0, .ref (xnt E j))] := hl
  have hn : XN 0 0 (xnx σ) (xns σ) (xnx res.2) (xns res.2) σ := ⟨Nat.zero_add _, Nat.zero_add _, (r0_X1_draw (j := j) (σ := σ) hf).le.1, (r0_X1_draw (j := j) (σ := σ) hf).le.2⟩
  refine lv_aload_n hx hb dX1_draw_0 rfl (lv_at hl 0 rfl) ?_
  refine lv_aload_n hx hb dX1_draw_1 rfl (lv_at hl 0 rfl) ?_
  refine x_nget (j := j) (k := 3) (v := .int (xN σ j 3)) S hR (lk_X1_21 _ List.mem_cons_self) rfl dX1_draw_2 ?_
  refine lv_ldc hx hb hown (hts _ q2381) dX1_draw_5 ?_
  refine lv_imul hx hb dX1_draw_7 ?_
  refine lv_sipush (v := 12345) hx hb dX1_draw_8 (by decide) ?_
  refine lv_iadd hx hb dX1_draw_11 ?_
  refine k_bind hf (fun σ1 hσ1 hf => ?_)
  refine x_nput (k := 3) S hR hS hσ1 (by decide) (pt_X1_21 _ List.mem_cons_self).1 (pt_X1_21 _ List.mem_cons_self).2 dX1_draw_12 (fun H locs hR hS => ?_)
  replace hn := hn.to (r0_pN hσ1)
  refine lv_aload_n hx hb dX1_draw_15 rfl (lv_at hl 0 rfl) ?_
  refine x_nget (j := j) (k := 3) (v := .int (xN σ1 j 3)) S hR (lk_X1_21 _ List.mem_cons_self) rfl dX1_draw_16 ?_
  refine lv_bipush (v := 16) hx hb dX1_draw_19 (by decide) ?_
  refine lv_iushr (v := (iur (xN σ1 j 3) (16 : Int32))) hx hb dX1_draw_21 rfl ?_
  obtain rfl := Option.some.inj hf
  exact x_iret S hR hS hn rfl dX1_draw_22

theorem pt_X1_31 : ∀ q ∈ ([(1, 2)] : List (Nat × Nat)), wLk RX1 31 q.1 q.2 ∧ wPt q.1 q.2 .int false RX1 := List.forall_mem_cons.mpr ⟨⟨⟨RX1, TX1, 4, "LinesTouched$Net", rfl, by decide, in_X1, q190, Or.inl rfl⟩, ⟨RX1, TX1, 4, tyX1, rfl, by decide, rfl, by decide +kernel, nmX1, tyX1_ok, fun h => absurd h (by decide)⟩⟩, fun _ h => absurd h List.not_mem_nil⟩
noncomputable def LX1_deals_7 (y0 : Fin 3) (y1 : Int32) (y2 : Int32) (q : Int32 × xS) : Option ((Int32 × xS) ⊕ (xS)) :=
  if y1 ≤ q.1 then some (Sum.inr q.2) else (fX1_draw y0 q.2).bind (fun e2 => (some (irm e2.1 (6 : Int32))).bind (fun v3 => (fX1_draw y0 e2.2).bind (fun e4 => (fX1_comes y0 v3 ((1 : Int32) + (irm e4.1 (9 : Int32))) e4.2).bind (fun v5 => some (Sum.inl (q.1 + (1 : Int32), e4.2))))))
noncomputable def LX1_deals_60 (y0 : Fin 3) (y1 : Int32) (y2 : Int32) (y4 : Int32) (q : Int32 × Int32 × xS) : Option ((Int32 × Int32 × xS) ⊕ (Int32 × xS)) :=
  if y1 ≤ q.2.1 then some (Sum.inr (q.1, q.2.2)) else (fX1_draw y0 q.2.2).bind (fun e8 => if y2 ≤ (irm e8.1 (10 : Int32)) then some (Sum.inl (q.1, q.2.1 + (1 : Int32), e8.2)) else (fX1_joins y0 y4 q.2.1 (1 : Int32) e8.2).bind (fun e9 => some (Sum.inl (q.1 + (1 : Int32), q.2.1 + (1 : Int32), e9))))
noncomputable def LX1_deals_48 (y0 : Fin 3) (y1 : Int32) (y2 : Int32) (q : Int32 × Int32 × xS) : Option ((Int32 × Int32 × xS) ⊕ (Int32 × xS)) :=
  if y1 ≤ q.2.1 then some (Sum.inr (q.1, q.2.2)) else (some (q.2.1 + (1 : Int32))).bind (fun v7 => (lpw (LX1_deals_60 y0 y1 y2 q.2.1) (q.1, v7, q.2.2)).bind (fun b10 => some (Sum.inl (b10.1, q.2.1 + (1 : Int32), b10.2))))
noncomputable def fX1_deals (j : Fin 3) (x1 : Int32) (x2 : Int32) (σ : xS) : Option (Int32 × xS) :=
  (xpN σ j 2 (0 : Int32)).bind (fun σ1 => (lpw (LX1_deals_7 j x1 x2) ((0 : Int32), σ1)).bind (fun b6 => (lpw (LX1_deals_48 j x1 x2) ((0 : Int32), (0 : Int32), b6)).bind (fun b11 => some (b11.1, b11.2))))
theorem wi_X1_deals : wInfV yX1_deals cX1_deals 6 (Option.some Jvm.ClassFile.FieldType.int) 2 := ⟨q2374, q2375, q107, q2376, (by decide +kernel), (by decide +kernel), (by decide +kernel)⟩
set_option maxHeartbeats 4000000 in
set_option maxRecDepth 100000 in
theorem rsLX1_deals_7 {y0 : Fin 3} {y1 : Int32} {y2 : Int32} {q : Int32 × xS} {res : (Int32 × xS) ⊕ (xS)} (hf : LX1_deals_7 y0 y1 y2 q = some res) : rl0 q.2 (Sum.elim (fun q => q.2) (fun b => b) res) := by
  replace hf : (if y1 ≤ q.1 then some (Sum.inr q.2) else (fX1_draw y0 q.2).bind (fun e2 => (some (irm e2.1 (6 : Int32))).bind (fun v3 => (fX1_draw y0 e2.2).bind (fun e4 => (fX1_comes y0 v3 ((1 : Int32) + (irm e4.1 (9 : Int32))) e4.2).bind (fun v5 => some (Sum.inl (q.1 + (1 : Int32), e4.2))))))) = some res := hf
  by_cases c0 : y1 ≤ q.1
  · replace hf := o_t hf c0
    obtain rfl := Option.some.inj hf
    exact rl0.rf _
  · replace hf := o_f hf c0
    refine k_bind hf (fun e2 he2 hf => ?_)
    refine rl0.tr (r0_X1_draw he2) ?_
    refine k_bind hf (fun v3 hv3 hf => ?_)
    refine k_bind hf (fun e4 he4 hf => ?_)
    refine rl0.tr (r0_X1_draw he4) ?_
    refine k_bind hf (fun v5 hv5 hf => ?_)
    obtain rfl := Option.some.inj hf
    exact rl0.rf _
set_option maxHeartbeats 4000000 in
set_option maxRecDepth 100000 in
theorem rLX1_deals_7 {y0 : Fin 3} {y1 : Int32} {y2 : Int32} {q : Int32 × xS} {b : xS} (h : lpw (LX1_deals_7 y0 y1 y2) q = some b) : rl0 q.2 ((fun b => b) b) :=
  lpw_rel _ (fun q => q.2) (fun b => b) rl0 rl0.tr (fun _ _ hf => rsLX1_deals_7 hf) h
set_option maxHeartbeats 4000000 in
set_option maxRecDepth 100000 in
theorem rsLX1_deals_60 {y0 : Fin 3} {y1 : Int32} {y2 : Int32} {y4 : Int32} {q : Int32 × Int32 × xS} {res : (Int32 × Int32 × xS) ⊕ (Int32 × xS)} (hf : LX1_deals_60 y0 y1 y2 y4 q = some res) : rl0 q.2.2 (Sum.elim (fun q => q.2.2) (fun b => b.2) res) := by
  replace hf : (if y1 ≤ q.2.1 then some (Sum.inr (q.1, q.2.2)) else (fX1_draw y0 q.2.2).bind (fun e8 => if y2 ≤ (irm e8.1 (10 : Int32)) then some (Sum.inl (q.1, q.2.1 + (1 : Int32), e8.2)) else (fX1_joins y0 y4 q.2.1 (1 : Int32) e8.2).bind (fun e9 => some (Sum.inl (q.1 + (1 : Int32), q.2.1 + (1 : Int32), e9))))) = some res := hf
  by_cases c0 : y1 ≤ q.2.1
  · replace hf := o_t hf c0
    obtain rfl := Option.some.inj hf
    exact rl0.rf _
  · replace hf := o_f hf c0
    refine k_bind hf (fun e8 he8 hf => ?_)
    refine rl0.tr (r0_X1_draw he8) ?_
    by_cases c0 : y2 ≤ (irm e8.1 (10 : Int32))
    · replace hf := o_t hf c0
      obtain rfl := Option.some.inj hf
      exact rl0.rf _
    · replace hf := o_f hf c0
      refine k_bind hf (fun e9 he9 hf => ?_)
      refine rl0.tr (r0_X1_joins he9) ?_
      obtain rfl := Option.some.inj hf
      exact rl0.rf _
set_option maxHeartbeats 4000000 in
set_option maxRecDepth 100000 in
theorem rLX1_deals_60 {y0 : Fin 3} {y1 : Int32} {y2 : Int32} {y4 : Int32} {q : Int32 × Int32 × xS} {b : Int32 × xS} (h : lpw (LX1_deals_60 y0 y1 y2 y4) q = some b) : rl0 q.2.2 ((fun b => b.2) b) :=
  lpw_rel _ (fun q => q.2.2) (fun b => b.2) rl0 rl0.tr (fun _ _ hf => rsLX1_deals_60 hf) h
set_option maxHeartbeats 4000000 in
set_option maxRecDepth 100000 in
theorem rsLX1_deals_48 {y0 : Fin 3} {y1 : Int32} {y2 : Int32} {q : Int32 × Int32 × xS} {res : (Int32 × Int32 × xS) ⊕ (Int32 × xS)} (hf : LX1_deals_48 y0 y1 y2 q = some res) : rl0 q.2.2 (Sum.elim (fun q => q.2.2) (fun b => b.2) res) := by
  replace hf : (if y1 ≤ q.2.1 then some (Sum.inr (q.1, q.2.2)) else (some (q.2.1 + (1 : Int32))).bind (fun v7 => (lpw (LX1_deals_60 y0 y1 y2 q.2.1) (q.1, v7, q.2.2)).bind (fun b10 => some (Sum.inl (b10.1, q.2.1 + (1 : Int32), b10.2))))) = some res := hf
  by_cases c0 : y1 ≤ q.2.1
  · replace hf := o_t hf c0
    obtain rfl := Option.some.inj hf
    exact rl0.rf _
  · replace hf := o_f hf c0
    refine k_bind hf (fun v7 hv7 hf => ?_)
    refine k_bind hf (fun b10 hb10 hf => ?_)
    refine rl0.tr (rLX1_deals_60 hb10) ?_
    obtain rfl := Option.some.inj hf
    exact rl0.rf _
set_option maxHeartbeats 4000000 in
set_option maxRecDepth 100000 in
theorem rLX1_deals_48 {y0 : Fin 3} {y1 : Int32} {y2 : Int32} {q : Int32 × Int32 × xS} {b : Int32 × xS} (h : lpw (LX1_deals_48 y0 y1 y2) q = some b) : rl0 q.2.2 ((fun b => b.2) b) :=
  lpw_rel _ (fun q => q.2.2) (fun b => b.2) rl0 rl0.tr (fun _ _ hf => rsLX1_deals_48 hf) h
set_option maxHeartbeats 4000000 in
set_option maxRecDepth 100000 in
theorem r0_X1_deals {j : Fin 3} {x1 : Int32} {x2 : Int32} {σ : xS} {res : Int32 × xS} (hf : fX1_deals j x1 x2 σ = some res) : rl0 σ res.2 := by
  replace hf : ((xpN σ j 2 (0 : Int32)).bind (fun σ1 => (lpw (LX1_deals_7 j x1 x2) ((0 : Int32), σ1)).bind (fun b6 => (lpw (LX1_deals_48 j x1 x2) ((0 : Int32), (0 : Int32), b6)).bind (fun b11 => some (b11.1, b11.2))))) = some res := hf
  refine k_bind hf (fun σ1 hσ1 hf => ?_)
  refine rl0.tr (r0_pN hσ1) ?_
  refine k_bind hf (fun b6 hb6 hf => ?_)
  refine rl0.tr (rLX1_deals_7 hb6) ?_
  refine k_bind hf (fun b11 hb11 hf => ?_)
  refine rl0.tr (rLX1_deals_48 hb11) ?_
  obtain rfl := Option.some.inj hf
  exact rl0.rf _
set_option maxHeartbeats 4000000 in
set_option maxRecDepth 100000 in
theorem wbLX1_deals_7 {l : Launch} {E : xG} {p : Program} {e : Env} {s : State} {m : MethodId} {args : Array Value} {below : List Frame} {meth : Method} {c : Code} {Q : State → Prop} {n0 s0 nf sf : Nat} {y0 : Fin 3} {y1 : Int32} {y2 : Int32} {q : Int32 × xS} {res : (Int32 × xS) ⊕ (xS)} (S : xSt E RX1 p m c cX1_deals 6 s args meth (Option.some Jvm.ClassFile.FieldType.int)) (hf : LX1_deals_7 y0 y1 y2 q = some res) (hK : ∀ q, res = Sum.inl q → (∀ (H : Heap) (locs : List Loc) (cells slots : Nat) (ls : Array Slot), xR E q.2 H → va_S (xAA E) s.heap H locs → XN cells slots n0 s0 nf sf q.2 → lv_has ls 6 [(0, .ref (xnt E y0)), (1, .int y1), (2, .int y2), (3, .int q.1)] → W p l e (xRm 1 23 (nf - n0) (sf - s0)) s m args below meth c H locs cells slots Q (F0 m 7 ls []))) (hE43 : ∀ b, res = Sum.inr b → (∀ (H : Heap) (locs : List Loc) (cells slots : Nat) (ls : Array Slot), xR E b H → va_S (xAA E) s.heap H locs → XN cells slots n0 s0 nf sf b → lv_has ls 6 [(0, .ref (xnt E y0)), (1, .int y1), (2, .int y2)] → W p l e (xRm 1 23 (nf - n0) (sf - s0)) s m args below meth c H locs cells slots Q (F0 m 43 ls []))) : (∀ (H : Heap) (locs : List Loc) (cells slots : Nat) (ls : Array Slot), xR E q.2 H → va_S (xAA E) s.heap H locs → XN cells slots n0 s0 nf sf q.2 → lv_has ls 6 [(0, .ref (xnt E y0)), (1, .int y1), (2, .int y2), (3, .int q.1)] → W p l e (xRm 1 23 (nf - n0) (sf - s0)) s m args below meth c H locs cells slots Q (F0 m 7 ls [])) := by
  replace hf : (if y1 ≤ q.1 then some (Sum.inr q.2) else (fX1_draw y0 q.2).bind (fun e2 => (some (irm e2.1 (6 : Int32))).bind (fun v3 => (fX1_draw y0 e2.2).bind (fun e4 => (fX1_comes y0 v3 ((1 : Int32) + (irm e4.1 (9 : Int32))) e4.2).bind (fun v5 => some (Sum.inl (q.1 + (1 : Int32), e4.2))))))) = some res := hf
  obtain ⟨hx, hb, hml, hown, hts⟩ := S.1.1
  intro H locs cells slots ls hR hS hn hl
  refine lv_iload_n hx hb dX1_deals_7 rfl (lv_at hl 3 rfl) ?_
  refine lv_iload_n hx hb dX1_deals_8 rfl (lv_at hl 1 rfl) ?_
  refine lv_icmp_ge (tgt := 43) hx hb dX1_deals_9 (by decide) (fun c_9 => ?_) (fun c_9 => ?_)
  · replace hf := o_t hf c_9
    exact hE43 _ (Option.some.inj hf).symm _ _ _ _ _ hR hS hn (lv_sub (l' := [(0, .ref (xnt E y0)), (1, .int y1), (2, .int y2)]) hl [0, 1, 2] rfl)
  · replace hf := o_f hf c_9
    refine lv_aload_n hx hb dX1_deals_12 rfl (lv_at hl 0 rfl) ?_
    refine k_bind hf (fun e2 he2 hf => ?_)
    refine x_call (C := RX1) (As := []) (rest := []) S hR hS hn (met_X1_draw he2) (r0_X1_draw he2).le (hn.b (r0_X1_draw he2)) wi_X1_draw (xrc S.2 hR (ci := 1) rfl (Or.inr (Or.inl ⟨_, rfl, rfl⟩))) rfl q2377 ⟨Nat.le_of_ble_eq_true rfl, Nat.le_of_ble_eq_true rfl⟩ rfl hl.1 rfl (Nat.le_of_ble_eq_true rfl) dX1_deals_13 (fun H locs cells slots hR hS hn => ?_)
    refine lv_bipush (v := 6) hx hb dX1_deals_16 (by decide) ?_
    refine lv_irem hx hb dX1_deals_18 (by decide) ?_
    refine k_bind hf (fun v3 hv3 hf => ?_)
    refine m_nmi hv3 ?_
    refine lv_istore (lv' := [(4, .int v3), (0, .ref (xnt E y0)), (1, .int y1), (2, .int y2), (3, .int q.1)]) hx hb dX1_deals_19 hl (by decide) rfl (fun ls hl => ?_)
    refine lv_aload_n hx hb dX1_deals_21 rfl (lv_at hl 1 rfl) ?_
    refine lv_iload hx hb dX1_deals_22 (lv_at hl 0 rfl) ?_
    refine lv_iconst (v := 1) hx hb dX1_deals_24 (by decide) ?_
    refine lv_aload_n hx hb dX1_deals_25 rfl (lv_at hl 1 rfl) ?_
    refine k_bind hf (fun e4 he4 hf => ?_)
    refine x_call (C := RX1) (As := []) (rest := [.int (1 : Int32), .int v3, .ref (xnt E y0)]) S hR hS hn (met_X1_draw he4) (r0_X1_draw he4).le (hn.b (r0_X1_draw he4)) wi_X1_draw (xrc S.2 hR (ci := 1) rfl (Or.inr (Or.inl ⟨_, rfl, rfl⟩))) rfl q2377 ⟨Nat.le_of_ble_eq_true rfl, Nat.le_of_ble_eq_true rfl⟩ rfl hl.1 rfl (Nat.le_of_ble_eq_true rfl) dX1_deals_26 (fun H locs cells slots hR hS hn => ?_)
    refine lv_bipush (v := 9) hx hb dX1_deals_29 (by decide) ?_
    refine lv_irem hx hb dX1_deals_31 (by decide) ?_
    refine lv_iadd hx hb dX1_deals_32 ?_
    refine k_bind hf (fun v5 hv5 hf => ?_)
    refine x_call (C := RX1) (As := [.int v3, .int ((1 : Int32) + (irm e4.1 (9 : Int32)))]) (rest := []) S hR hS hn (met_X1_comes hv5) (rl1.rf _) (hn.b (rl0.rf _)) wi_X1_comes (xrc S.2 hR (ci := 1) rfl (Or.inr (Or.inl ⟨_, rfl, rfl⟩))) rfl q2382 ⟨Nat.le_of_ble_eq_true rfl, Nat.le_of_ble_eq_true rfl⟩ rfl hl.1 rfl (Nat.le_of_ble_eq_true rfl) dX1_deals_33 (fun H locs cells slots hR hS hn => ?_)
    refine lv_pop hx hb dX1_deals_36 rfl ?_
    refine lv_iinc (lv' := [(3, .int (q.1 + (1 : Int32))), (4, .int v3), (0, .ref (xnt E y0)), (1, .int y1), (2, .int y2)]) hx hb dX1_deals_37 hl (k := 4) rfl (m_inc (by decide)) (by decide) rfl (fun ls hl => ?_)
    refine lv_goto (tgt := 7) hx hb dX1_deals_40 (by decide) ?_
    exact hK _ (Option.some.inj hf).symm _ _ _ _ _ hR hS hn (lv_sub (l' := [(0, .ref (xnt E y0)), (1, .int y1), (2, .int y2), (3, .int (q.1 + (1 : Int32)))]) hl [2, 3, 4, 0] rfl)
set_option maxHeartbeats 4000000 in
set_option maxRecDepth 100000 in
theorem wLX1_deals_7 {l : Launch} {E : xG} {p : Program} {e : Env} {s : State} {m : MethodId} {args : Array Value} {below : List Frame} {meth : Method} {c : Code} {Q : State → Prop} {n0 s0 nf sf : Nat} {y0 : Fin 3} {y1 : Int32} {y2 : Int32} {q : Int32 × xS} {res : xS} (S : xSt E RX1 p m c cX1_deals 6 s args meth (Option.some Jvm.ClassFile.FieldType.int)) (h : lpw (LX1_deals_7 y0 y1 y2) q = some res) (hE43 : ∀ b, res = b → (∀ (H : Heap) (locs : List Loc) (cells slots : Nat) (ls : Array Slot), xR E b H → va_S (xAA E) s.heap H locs → XN cells slots n0 s0 nf sf b → lv_has ls 6 [(0, .ref (xnt E y0)), (1, .int y1), (2, .int y2)] → W p l e (xRm 1 23 (nf - n0) (sf - s0)) s m args below meth c H locs cells slots Q (F0 m 43 ls []))) : (∀ (H : Heap) (locs : List Loc) (cells slots : Nat) (ls : Array Slot), xR E q.2 H → va_S (xAA E) s.heap H locs → XN cells slots n0 s0 nf sf q.2 → lv_has ls 6 [(0, .ref (xnt E y0)), (1, .int y1), (2, .int y2), (3, .int q.1)] → W p l e (xRm 1 23 (nf - n0) (sf - s0)) s m args below meth c H locs cells slots Q (F0 m 7 ls [])) :=
  lpw_go _ (fun q => (∀ (H : Heap) (locs : List Loc) (cells slots : Nat) (ls : Array Slot), xR E q.2 H → va_S (xAA E) s.heap H locs → XN cells slots n0 s0 nf sf q.2 → lv_has ls 6 [(0, .ref (xnt E y0)), (1, .int y1), (2, .int y2), (3, .int q.1)] → W p l e (xRm 1 23 (nf - n0) (sf - s0)) s m args below meth c H locs cells slots Q (F0 m 7 ls []))) (fun b0 => (∀ b, b0 = b → (∀ (H : Heap) (locs : List Loc) (cells slots : Nat) (ls : Array Slot), xR E b H → va_S (xAA E) s.heap H locs → XN cells slots n0 s0 nf sf b → lv_has ls 6 [(0, .ref (xnt E y0)), (1, .int y1), (2, .int y2)] → W p l e (xRm 1 23 (nf - n0) (sf - s0)) s m args below meth c H locs cells slots Q (F0 m 43 ls [])))) (fun q x hf hK hX => wbLX1_deals_7 S hf hK (fun b eb => (hX _ eb) b rfl)) q res h hE43
set_option maxHeartbeats 4000000 in
set_option maxRecDepth 100000 in
theorem wbLX1_deals_60 {l : Launch} {E : xG} {p : Program} {e : Env} {s : State} {m : MethodId} {args : Array Value} {below : List Frame} {meth : Method} {c : Code} {Q : State → Prop} {n0 s0 nf sf : Nat} {y0 : Fin 3} {y1 : Int32} {y2 : Int32} {y4 : Int32} {q : Int32 × Int32 × xS} {res : (Int32 × Int32 × xS) ⊕ (Int32 × xS)} (S : xSt E RX1 p m c cX1_deals 6 s args meth (Option.some Jvm.ClassFile.FieldType.int)) (hf : LX1_deals_60 y0 y1 y2 y4 q = some res) (hK : ∀ q, res = Sum.inl q → (∀ (H : Heap) (locs : List Loc) (cells slots : Nat) (ls : Array Slot), xR E q.2.2 H → va_S (xAA E) s.heap H locs → XN cells slots n0 s0 nf sf q.2.2 → lv_has ls 6 [(0, .ref (xnt E y0)), (1, .int y1), (2, .int y2), (3, .int q.1), (4, .int y4), (5, .int q.2.1)] → W p l e (xRm 1 23 (nf - n0) (sf - s0)) s m args below meth c H locs cells slots Q (F0 m 60 ls []))) (hE95 : ∀ b, res = Sum.inr b → (∀ (H : Heap) (locs : List Loc) (cells slots : Nat) (ls : Array Slot), xR E b.2 H → va_S (xAA E) s.heap H locs → XN cells slots n0 s0 nf sf b.2 → lv_has ls 6 [(0, .ref (xnt E y0)), (1, .int y1), (2, .int y2), (3, .int b.1), (4, .int y4)] → W p l e (xRm 1 23 (nf - n0) (sf - s0)) s m args below meth c H locs cells slots Q (F0 m 95 ls []))) : (∀ (H : Heap) (locs : List Loc) (cells slots : Nat) (ls : Array Slot), xR E q.2.2 H → va_S (xAA E) s.heap H locs → XN cells slots n0 s0 nf sf q.2.2 → lv_has ls 6 [(0, .ref (xnt E y0)), (1, .int y1), (2, .int y2), (3, .int q.1), (4, .int y4), (5, .int q.2.1)] → W p l e (xRm 1 23 (nf - n0) (sf - s0)) s m args below meth c H locs cells slots Q (F0 m 60 ls [])) := by
  replace hf : (if y1 ≤ q.2.1 then some (Sum.inr (q.1, q.2.2)) else (fX1_draw y0 q.2.2).bind (fun e8 => if y2 ≤ (irm e8.1 (10 : Int32)) then some (Sum.inl (q.1, q.2.1 + (1 : Int32), e8.2)) else (fX1_joins y0 y4 q.2.1 (1 : Int32) e8.2).bind (fun e9 => some (Sum.inl (q.1 + (1 : Int32), q.2.1 + (1 : Int32), e9))))) = some res := hf
  obtain ⟨hx, hb, hml, hown, hts⟩ := S.1.1
  intro H locs cells slots ls hR hS hn hl
  refine lv_iload hx hb dX1_deals_60 (lv_at hl 5 rfl) ?_
  refine lv_iload_n hx hb dX1_deals_62 rfl (lv_at hl 1 rfl) ?_
  refine lv_icmp_ge (tgt := 95) hx hb dX1_deals_63 (by decide) (fun c_63 => ?_) (fun c_63 => ?_)
  · replace hf := o_t hf c_63
    exact hE95 _ (Option.some.inj hf).symm _ _ _ _ _ hR hS hn (lv_sub (l' := [(0, .ref (xnt E y0)), (1, .int y1), (2, .int y2), (3, .int q.1), (4, .int y4)]) hl [0, 1, 2, 3, 4] rfl)
  · replace hf := o_f hf c_63
    refine lv_aload_n hx hb dX1_deals_66 rfl (lv_at hl 0 rfl) ?_
    refine k_bind hf (fun e8 he8 hf => ?_)
    refine x_call (C := RX1) (As := []) (rest := []) S hR hS hn (met_X1_draw he8) (r0_X1_draw he8).le (hn.b (r0_X1_draw he8)) wi_X1_draw (xrc S.2 hR (ci := 1) rfl (Or.inr (Or.inl ⟨_, rfl, rfl⟩))) rfl q2377 ⟨Nat.le_of_ble_eq_true rfl, Nat.le_of_ble_eq_true rfl⟩ rfl hl.1 rfl (Nat.le_of_ble_eq_true rfl) dX1_deals_67 (fun H locs cells slots hR hS hn => ?_)
    refine lv_bipush (v := 10) hx hb dX1_deals_70 (by decide) ?_
    refine lv_irem hx hb dX1_deals_72 (by decide) ?_
    refine lv_iload_n hx hb dX1_deals_73 rfl (lv_at hl 2 rfl) ?_
    refine lv_icmp_ge (tgt := 89) hx hb dX1_deals_74 (by decide) (fun c_74 => ?_) (fun c_74 => ?_)
    · replace hf := o_t hf c_74
      refine lv_iinc (lv' := [(5, .int (q.2.1 + (1 : Int32))), (0, .ref (xnt E y0)), (1, .int y1), (2, .int y2), (3, .int q.1), (4, .int y4)]) hx hb dX1_deals_89 hl (k := 5) rfl (m_inc (by decide)) (by decide) rfl (fun ls hl => ?_)
      refine lv_goto (tgt := 60) hx hb dX1_deals_92 (by decide) ?_
      exact hK _ (Option.some.inj hf).symm _ _ _ _ _ hR hS hn (lv_sub (l' := [(0, .ref (xnt E y0)), (1, .int y1), (2, .int y2), (3, .int q.1), (4, .int y4), (5, .int (q.2.1 + (1 : Int32)))]) hl [1, 2, 3, 4, 5, 0] rfl)
    · replace hf := o_f hf c_74
      refine lv_aload_n hx hb dX1_deals_77 rfl (lv_at hl 0 rfl) ?_
      refine lv_iload hx hb dX1_deals_78 (lv_at hl 4 rfl) ?_
      refine lv_iload hx hb dX1_deals_80 (lv_at hl 5 rfl) ?_
      refine lv_iconst (v := 1) hx hb dX1_deals_82 (by decide) ?_
      refine k_bind hf (fun e9 he9 hf => ?_)
      refine x_call (C := RX1) (As := [.int y4, .int q.2.1, .int (1 : Int32)]) (rest := []) S hR hS hn (met_X1_joins he9) (r0_X1_joins he9).le (hn.b (r0_X1_joins he9)) wi_X1_joins (xrc S.2 hR (ci := 1) rfl (Or.inr (Or.inl ⟨_, rfl, rfl⟩))) rfl q2383 ⟨Nat.le_of_ble_eq_true rfl, Nat.le_of_ble_eq_true rfl⟩ rfl hl.1 rfl (Nat.le_of_ble_eq_true rfl) dX1_deals_83 (fun H locs cells slots hR hS hn => ?_)
      refine lv_iinc (lv' := [(3, .int (q.1 + (1 : Int32))), (0, .ref (xnt E y0)), (1, .int y1), (2, .int y2), (4, .int y4), (5, .int q.2.1)]) hx hb dX1_deals_86 hl (k := 3) rfl (m_inc (by decide)) (by decide) rfl (fun ls hl => ?_)
      refine lv_iinc (lv' := [(5, .int (q.2.1 + (1 : Int32))), (3, .int (q.1 + (1 : Int32))), (0, .ref (xnt E y0)), (1, .int y1), (2, .int y2), (4, .int y4)]) hx hb dX1_deals_89 hl (k := 5) rfl (m_inc (by decide)) (by decide) rfl (fun ls hl => ?_)
      refine lv_goto (tgt := 60) hx hb dX1_deals_92 (by decide) ?_
      exact hK _ (Option.some.inj hf).symm _ _ _ _ _ hR hS hn (lv_sub (l' := [(0, .ref (xnt E y0)), (1, .int y1), (2, .int y2), (3, .int (q.1 + (1 : Int32))), (4, .int y4), (5, .int (q.2.1 + (1 : Int32)))]) hl [2, 3, 4, 1, 5, 0] rfl)
set_option maxHeartbeats 4000000 in
set_option maxRecDepth 100000 in
theorem wLX1_deals_60 {l : Launch} {E : xG} {p : Program} {e : Env} {s : State} {m : MethodId} {args : Array Value} {below : List Frame} {meth : Method} {c : Code} {Q : State → Prop} {n0 s0 nf sf : Nat} {y0 : Fin 3} {y1 : Int32} {y2 : Int32} {y4 : Int32} {q : Int32 × Int32 × xS} {res : Int32 × xS} (S : xSt E RX1 p m c cX1_deals 6 s args meth (Option.some Jvm.ClassFile.FieldType.int)) (h : lpw (LX1_deals_60 y0 y1 y2 y4) q = some res) (hE95 : ∀ b, res = b → (∀ (H : Heap) (locs : List Loc) (cells slots : Nat) (ls : Array Slot), xR E b.2 H → va_S (xAA E) s.heap H locs → XN cells slots n0 s0 nf sf b.2 → lv_has ls 6 [(0, .ref (xnt E y0)), (1, .int y1), (2, .int y2), (3, .int b.1), (4, .int y4)] → W p l e (xRm 1 23 (nf - n0) (sf - s0)) s m args below meth c H locs cells slots Q (F0 m 95 ls []))) : (∀ (H : Heap) (locs : List Loc) (cells slots : Nat) (ls : Array Slot), xR E q.2.2 H → va_S (xAA E) s.heap H locs → XN cells slots n0 s0 nf sf q.2.2 → lv_has ls 6 [(0, .ref (xnt E y0)), (1, .int y1), (2, .int y2), (3, .int q.1), (4, .int y4), (5, .int q.2.1)] → W p l e (xRm 1 23 (nf - n0) (sf - s0)) s m args below meth c H locs cells slots Q (F0 m 60 ls [])) :=
  lpw_go _ (fun q => (∀ (H : Heap) (locs : List Loc) (cells slots : Nat) (ls : Array Slot), xR E q.2.2 H → va_S (xAA E) s.heap H locs → XN cells slots n0 s0 nf sf q.2.2 → lv_has ls 6 [(0, .ref (xnt E y0)), (1, .int y1), (2, .int y2), (3, .int q.1), (4, .int y4), (5, .int q.2.1)] → W p l e (xRm 1 23 (nf - n0) (sf - s0)) s m args below meth c H locs cells slots Q (F0 m 60 ls []))) (fun b0 => (∀ b, b0 = b → (∀ (H : Heap) (locs : List Loc) (cells slots : Nat) (ls : Array Slot), xR E b.2 H → va_S (xAA E) s.heap H locs → XN cells slots n0 s0 nf sf b.2 → lv_has ls 6 [(0, .ref (xnt E y0)), (1, .int y1), (2, .int y2), (3, .int b.1), (4, .int y4)] → W p l e (xRm 1 23 (nf - n0) (sf - s0)) s m args below meth c H locs cells slots Q (F0 m 95 ls [])))) (fun q x hf hK hX => wbLX1_deals_60 S hf hK (fun b eb => (hX _ eb) b rfl)) q res h hE95
set_option maxHeartbeats 4000000 in
set_option maxRecDepth 100000 in
theorem wbLX1_deals_48 {l : Launch} {E : xG} {p : Program} {e : Env} {s : State} {m : MethodId} {args : Array Value} {below : List Frame} {meth : Method} {c : Code} {Q : State → Prop} {n0 s0 nf sf : Nat} {y0 : Fin 3} {y1 : Int32} {y2 : Int32} {q : Int32 × Int32 × xS} {res : (Int32 × Int32 × xS) ⊕ (Int32 × xS)} (S : xSt E RX1 p m c cX1_deals 6 s args meth (Option.some Jvm.ClassFile.FieldType.int)) (hf : LX1_deals_48 y0 y1 y2 q = some res) (hK : ∀ q, res = Sum.inl q → (∀ (H : Heap) (locs : List Loc) (cells slots : Nat) (ls : Array Slot), xR E q.2.2 H → va_S (xAA E) s.heap H locs → XN cells slots n0 s0 nf sf q.2.2 → lv_has ls 6 [(0, .ref (xnt E y0)), (1, .int y1), (2, .int y2), (3, .int q.1), (4, .int q.2.1)] → W p l e (xRm 1 23 (nf - n0) (sf - s0)) s m args below meth c H locs cells slots Q (F0 m 48 ls []))) (hE101 : ∀ b, res = Sum.inr b → (∀ (H : Heap) (locs : List Loc) (cells slots : Nat) (ls : Array Slot), xR E b.2 H → va_S (xAA E) s.heap H locs → XN cells slots n0 s0 nf sf b.2 → lv_has ls 6 [(3, .int b.1)] → W p l e (xRm 1 23 (nf - n0) (sf - s0)) s m args below meth c H locs cells slots Q (F0 m 101 ls []))) : (∀ (H : Heap) (locs : List Loc) (cells slots : Nat) (ls : Array Slot), xR E q.2.2 H → va_S (xAA E) s.heap H locs → XN cells slots n0 s0 nf sf q.2.2 → lv_has ls 6 [(0, .ref (xnt E y0)), (1, .int y1), (2, .int y2), (3, .int q.1), (4, .int q.2.1)] → W p l e (xRm 1 23 (nf - n0) (sf - s0)) s m args below meth c H locs cells slots Q (F0 m 48 ls [])) := by
  replace hf : (if y1 ≤ q.2.1 then some (Sum.inr (q.1, q.2.2)) else (some (q.2.1 + (1 : Int32))).bind (fun v7 => (lpw (LX1_deals_60 y0 y1 y2 q.2.1) (q.1, v7, q.2.2)).bind (fun b10 => some (Sum.inl (b10.1, q.2.1 + (1 : Int32), b10.2))))) = some res := hf
  obtain ⟨hx, hb, hml, hown, hts⟩ := S.1.1
  intro H locs cells slots ls hR hS hn hl
  refine lv_iload hx hb dX1_deals_48 (lv_at hl 4 rfl) ?_
  refine lv_iload_n hx hb dX1_deals_50 rfl (lv_at hl 1 rfl) ?_
  refine lv_icmp_ge (tgt := 101) hx hb dX1_deals_51 (by decide) (fun c_51 => ?_) (fun c_51 => ?_)
  · replace hf := o_t hf c_51
    exact hE101 _ (Option.some.inj hf).symm _ _ _ _ _ hR hS hn (lv_sub (l' := [(3, .int q.1)]) hl [3] rfl)
  · replace hf := o_f hf c_51
    refine lv_iload hx hb dX1_deals_54 (lv_at hl 4 rfl) ?_
    refine lv_iconst (v := 1) hx hb dX1_deals_56 (by decide) ?_
    refine lv_iadd hx hb dX1_deals_57 ?_
    refine k_bind hf (fun v7 hv7 hf => ?_)
    refine m_nmi hv7 ?_
    refine lv_istore (lv' := [(5, .int v7), (0, .ref (xnt E y0)), (1, .int y1), (2, .int y2), (3, .int q.1), (4, .int q.2.1)]) hx hb dX1_deals_58 hl (by decide) rfl (fun ls hl => ?_)
    refine k_bind hf (fun b10 hb10 hf => ?_)
    refine wLX1_deals_60 S hb10 ?_ _ _ _ _ _ hR hS hn (lv_sub (l' := [(0, .ref (xnt E y0)), (1, .int y1), (2, .int y2), (3, .int q.1), (4, .int q.2.1), (5, .int v7)]) hl [1, 2, 3, 4, 5, 0] rfl)
    · intro b eb; subst eb; intro H locs cells slots ls hR hS hn hl
      refine lv_iinc (lv' := [(4, .int (q.2.1 + (1 : Int32))), (0, .ref (xnt E y0)), (1, .int y1), (2, .int y2), (3, .int b10.1)]) hx hb dX1_deals_95 hl (k := 4) rfl (m_inc (by decide)) (by decide) rfl (fun ls hl => ?_)
      refine lv_goto (tgt := 48) hx hb dX1_deals_98 (by decide) ?_
      exact hK _ (Option.some.inj hf).symm _ _ _ _ _ hR hS hn (lv_sub (l' := [(0, .ref (xnt E y0)), (1, .int y1), (2, .int y2), (3, .int b10.1), (4, .int (q.2.1 + (1 : Int32)))]) hl [1, 2, 3, 4, 0] rfl)
set_option maxHeartbeats 4000000 in
set_option maxRecDepth 100000 in
theorem wLX1_deals_48 {l : Launch} {E : xG} {p : Program} {e : Env} {s : State} {m : MethodId} {args : Array Value} {below : List Frame} {meth : Method} {c : Code} {Q : State → Prop} {n0 s0 nf sf : Nat} {y0 : Fin 3} {y1 : Int32} {y2 : Int32} {q : Int32 × Int32 × xS} {res : Int32 × xS} (S : xSt E RX1 p m c cX1_deals 6 s args meth (Option.some Jvm.ClassFile.FieldType.int)) (h : lpw (LX1_deals_48 y0 y1 y2) q = some res) (hE101 : ∀ b, res = b → (∀ (H : Heap) (locs : List Loc) (cells slots : Nat) (ls : Array Slot), xR E b.2 H → va_S (xAA E) s.heap H locs → XN cells slots n0 s0 nf sf b.2 → lv_has ls 6 [(3, .int b.1)] → W p l e (xRm 1 23 (nf - n0) (sf - s0)) s m args below meth c H locs cells slots Q (F0 m 101 ls []))) : (∀ (H : Heap) (locs : List Loc) (cells slots : Nat) (ls : Array Slot), xR E q.2.2 H → va_S (xAA E) s.heap H locs → XN cells slots n0 s0 nf sf q.2.2 → lv_has ls 6 [(0, .ref (xnt E y0)), (1, .int y1), (2, .int y2), (3, .int q.1), (4, .int q.2.1)] → W p l e (xRm 1 23 (nf - n0) (sf - s0)) s m args below meth c H locs cells slots Q (F0 m 48 ls [])) :=
  lpw_go _ (fun q => (∀ (H : Heap) (locs : List Loc) (cells slots : Nat) (ls : Array Slot), xR E q.2.2 H → va_S (xAA E) s.heap H locs → XN cells slots n0 s0 nf sf q.2.2 → lv_has ls 6 [(0, .ref (xnt E y0)), (1, .int y1), (2, .int y2), (3, .int q.1), (4, .int q.2.1)] → W p l e (xRm 1 23 (nf - n0) (sf - s0)) s m args below meth c H locs cells slots Q (F0 m 48 ls []))) (fun b0 => (∀ b, b0 = b → (∀ (H : Heap) (locs : List Loc) (cells slots : Nat) (ls : Array Slot), xR E b.2 H → va_S (xAA E) s.heap H locs → XN cells slots n0 s0 nf sf b.2 → lv_has ls 6 [(3, .int b.1)] → W p l e (xRm 1 23 (nf - n0) (sf - s0)) s m args below meth c H locs cells slots Q (F0 m 101 ls [])))) (fun q x hf hK hX => wbLX1_deals_48 S hf hK (fun b eb => (hX _ eb) b rfl)) q res h hE101
set_option maxHeartbeats 4000000 in
set_option maxRecDepth 100000 in
theorem met_X1_deals {l : Launch} {E : xG} {j : Fin 3} {x1 : Int32} {x2 : Int32} {σ : xS} {res : Int32 × xS} (hf : fX1_deals j x1 x2 σ = some res) : xMet l yX1_deals cX1_deals 6 (Option.some Jvm.ClassFile.FieldType.int) 1 23 E [.ref (xnt E j), .int x1, .int x2] σ (some (.int res.1)) res.2 := by
  replace hf : ((xpN σ j 2 (0 : Int32)).bind (fun σ1 => (lpw (LX1_deals_7 j x1 x2) ((0 : Int32), σ1)).bind (fun b6 => (lpw (LX1_deals_48 j x1 x2) ((0 : Int32), (0 : Int32), b6)).bind (fun b11 => some (b11.1, b11.2))))) = some res := hf
  refine x_start (by decide) (Nat.le_of_ble_eq_true rfl) ?_
  intro p e s m args below meth c S hnm hR hS ls hl
  obtain ⟨hx, hb, hml, hown, hts⟩ := S.1.1
  have hl : lv_has ls 6 [(0, .ref (xnt E j)), (1, .int x1), (2, .int x2)] := hl
  have hn : XN 0 0 (xnx σ) (xns σ) (xnx res.2) (xns res.2) σ := ⟨Nat.zero_add _, Nat.zero_add _, (r0_X1_deals (j := j) (x1 := x1) (x2 := x2) (σ := σ) hf).le.1, (r0_X1_deals (j := j) (x1 := x1) (x2 := x2) (σ := σ) hf).le.2⟩
  refine lv_aload_n hx hb dX1_deals_0 rfl (lv_at hl 0 rfl) ?_
  refine lv_iconst (v := 0) hx hb dX1_deals_1 (by decide) ?_
  refine k_bind hf (fun σ1 hσ1 hf => ?_)
  refine x_nput (k := 2) S hR hS hσ1 (by decide) (pt_X1_31 _ List.mem_cons_self).1 (pt_X1_31 _ List.mem_cons_self).2 dX1_deals_2 (fun H locs hR hS => ?_)
  replace hn := hn.to (r0_pN hσ1)
  refine lv_iconst (v := 0) hx hb dX1_deals_5 (by decide) ?_
  refine lv_istore_n (lv' := [(3, .int (0 : Int32)), (0, .ref (xnt E j)), (1, .int x1), (2, .int x2)]) hx hb dX1_deals_6 rfl hl (by decide) rfl (fun ls hl => ?_)
  refine k_bind hf (fun b6 hb6 hf => ?_)
  refine wLX1_deals_7 S hb6 ?_ _ _ _ _ _ hR hS hn (lv_sub (l' := [(0, .ref (xnt E j)), (1, .int x1), (2, .int x2), (3, .int (0 : Int32))]) hl [1, 2, 3, 0] rfl)
  · intro b eb; subst eb; intro H locs cells slots ls hR hS hn hl
    refine lv_iconst (v := 0) hx hb dX1_deals_43 (by decide) ?_
    refine lv_istore_n (lv' := [(3, .int (0 : Int32)), (0, .ref (xnt E j)), (1, .int x1), (2, .int x2)]) hx hb dX1_deals_44 rfl hl (by decide) rfl (fun ls hl => ?_)
    refine lv_iconst (v := 0) hx hb dX1_deals_45 (by decide) ?_
    refine lv_istore (lv' := [(4, .int (0 : Int32)), (3, .int (0 : Int32)), (0, .ref (xnt E j)), (1, .int x1), (2, .int x2)]) hx hb dX1_deals_46 hl (by decide) rfl (fun ls hl => ?_)
    refine k_bind hf (fun b11 hb11 hf => ?_)
    refine wLX1_deals_48 S hb11 ?_ _ _ _ _ _ hR hS hn (lv_sub (l' := [(0, .ref (xnt E j)), (1, .int x1), (2, .int x2), (3, .int (0 : Int32)), (4, .int (0 : Int32))]) hl [2, 3, 4, 1, 0] rfl)
    · intro b eb; subst eb; intro H locs cells slots ls hR hS hn hl
      refine lv_iload_n hx hb dX1_deals_101 rfl (lv_at hl 0 rfl) ?_
      obtain rfl := Option.some.inj hf
      exact x_iret S hR hS hn rfl dX1_deals_102


noncomputable def fX0_deal (x1 : Int32) (x2 : Int32) (σ : xS) : Option (Int32 × xS) :=
  if (fX0_in x1 (0 : Int32) (12 : Int32)) = (0 : Int32) then some ((-2 : Int32), σ) else if (fX0_in x2 (0 : Int32) (10 : Int32)) = (0 : Int32) then some ((-2 : Int32), σ) else (fX1_deals (0 : Fin 3) x1 x2 σ).bind (fun e1 => some (e1.1, e1.2))
theorem wi_X0_deal : wInfV yX0_deal cX0_deal 3 (Option.some Jvm.ClassFile.FieldType.int) 2 := ⟨q2370, q2371, q106, q2372, (by decide +kernel), (by decide +kernel), (by decide +kernel)⟩
set_option maxHeartbeats 4000000 in
set_option maxRecDepth 100000 in
theorem r0_X0_deal {x1 : Int32} {x2 : Int32} {σ : xS} {res : Int32 × xS} (hf : fX0_deal x1 x2 σ = some res) : rl0 σ res.2 := by
  replace hf : (if (fX0_in x1 (0 : Int32) (12 : Int32)) = (0 : Int32) then some ((-2 : Int32), σ) else if (fX0_in x2 (0 : Int32) (10 : Int32)) = (0 : Int32) then some ((-2 : Int32), σ) else (fX1_deals (0 : Fin 3) x1 x2 σ).bind (fun e1 => some (e1.1, e1.2))) = some res := hf
  by_cases c0 : (fX0_in x1 (0 : Int32) (12 : Int32)) = (0 : Int32)
  · replace hf := o_t hf c0
    obtain rfl := Option.some.inj hf
    exact rl0.rf _
  · replace hf := o_f hf c0
    by_cases c0 : (fX0_in x2 (0 : Int32) (10 : Int32)) = (0 : Int32)
    · replace hf := o_t hf c0
      obtain rfl := Option.some.inj hf
      exact rl0.rf _
    · replace hf := o_f hf c0
      refine k_bind hf (fun e1 he1 hf => ?_)
      refine rl0.tr (r0_X1_deals he1) ?_
      obtain rfl := Option.some.inj hf
      exact rl0.rf _
set_option maxHeartbeats 4000000 in
set_option maxRecDepth 100000 in
theorem met_X0_deal {l : Launch} {E : xG} {x1 : Int32} {x2 : Int32} {σ : xS} {res : Int32 × xS} (hf : fX0_deal x1 x2 σ = some res) : xMet l yX0_deal cX0_deal 3 (Option.some Jvm.ClassFile.FieldType.int) 2 48 E [.ref (xo E), .int x1, .int x2] σ (some (.int res.1)) res.2 := by
  replace hf : (if (fX0_in x1 (0 : Int32) (12 : Int32)) = (0 : Int32) then some ((-2 : Int32), σ) else if (fX0_in x2 (0 : Int32) (10 : Int32)) = (0 : Int32) then some ((-2 : Int32), σ) else (fX1_deals (0 : Fin 3) x1 x2 σ).bind (fun e1 => some (e1.1, e1.2))) = some res := hf
  refine x_start (by decide) (Nat.le_of_ble_eq_true rfl) ?_
  intro p e s m args below meth c S hnm hR hS ls hl
  obtain ⟨hx, hb, hml, hown, hts⟩ := S.1.1
  have hl : lv_has ls 3 [(0, .ref (xo E)), (1, .int x1), (2, .int x2)] := hl
  have hn : XN 0 0 (xnx σ) (xns σ) (xnx res.2) (xns res.2) σ := ⟨Nat.zero_add _, Nat.zero_add _, (r0_X0_deal (x1 := x1) (x2 := x2) (σ := σ) hf).le.1, (r0_X0_deal (x1 := x1) (x2 := x2) (σ := σ) hf).le.2⟩
  refine lv_iload_n hx hb dX0_deal_0 rfl (lv_at hl 1 rfl) ?_
  refine lv_iconst (v := 0) hx hb dX0_deal_1 (by decide) ?_
  refine lv_bipush (v := 12) hx hb dX0_deal_2 (by decide) ?_
  refine s_call (As := [.int x1, .int (0 : Int32), .int (12 : Int32)]) (rest := []) S.1.1 (met_X0_in rfl) wi_X0_in q479 ⟨rfl, rfl⟩ ⟨Nat.le_of_ble_eq_true rfl, Nat.le_of_ble_eq_true rfl⟩ rfl hl.1 rfl (Nat.le_of_ble_eq_true rfl) dX0_deal_4 hn.cs ?_
  refine lv_if_eq (tgt := 32) hx hb dX0_deal_7 (by decide) (fun c_7 => ?_) (fun c_7 => ?_)
  · replace hf := o_t hf c_7
    refine lv_bipush (v := -2) hx hb dX0_deal_32 (by decide) ?_
    obtain rfl := Option.some.inj hf
    exact x_iret S hR hS hn rfl dX0_deal_34
  · replace hf := o_f hf c_7
    refine lv_iload_n hx hb dX0_deal_10 rfl (lv_at hl 2 rfl) ?_
    refine lv_iconst (v := 0) hx hb dX0_deal_11 (by decide) ?_
    refine lv_bipush (v := 10) hx hb dX0_deal_12 (by decide) ?_
    refine s_call (As := [.int x2, .int (0 : Int32), .int (10 : Int32)]) (rest := []) S.1.1 (met_X0_in rfl) wi_X0_in q479 ⟨rfl, rfl⟩ ⟨Nat.le_of_ble_eq_true rfl, Nat.le_of_ble_eq_true rfl⟩ rfl hl.1 rfl (Nat.le_of_ble_eq_true rfl) dX0_deal_14 hn.cs ?_
    refine lv_if_eq (tgt := 32) hx hb dX0_deal_17 (by decide) (fun c_17 => ?_) (fun c_17 => ?_)
    · replace hf := o_t hf c_17
      refine lv_bipush (v := -2) hx hb dX0_deal_32 (by decide) ?_
      obtain rfl := Option.some.inj hf
      exact x_iret S hR hS hn rfl dX0_deal_34
    · replace hf := o_f hf c_17
      refine lv_aload_n hx hb dX0_deal_20 rfl (lv_at hl 0 rfl) ?_
      refine x_oget (k := 0) (v := .ref (xnt E (0 : Fin 3))) S hR (lk_X0_10 _ List.mem_cons_self) rfl dX0_deal_21 ?_
      refine lv_iload_n hx hb dX0_deal_24 rfl (lv_at hl 1 rfl) ?_
      refine lv_iload_n hx hb dX0_deal_25 rfl (lv_at hl 2 rfl) ?_
      refine k_bind hf (fun e1 he1 hf => ?_)
      refine x_call (C := RX1) (As := [.int x1, .int x2]) (rest := []) S hR hS hn (met_X1_deals he1) (r0_X1_deals he1).le (hn.b (r0_X1_deals he1)) wi_X1_deals (xrc S.2 hR (ci := 1) rfl (Or.inr (Or.inl ⟨_, rfl, rfl⟩))) rfl q2373 ⟨Nat.le_of_ble_eq_true rfl, Nat.le_of_ble_eq_true rfl⟩ rfl hl.1 rfl (Nat.le_of_ble_eq_true rfl) dX0_deal_26 (fun H locs cells slots hR hS hn => ?_)
      refine lv_goto (tgt := 34) hx hb dX0_deal_29 (by decide) ?_
      obtain rfl := Option.some.inj hf
      exact x_iret S hR hS hn rfl dX0_deal_34


noncomputable def fX0_lays (x0 : Option Nat) (x1 : Int32) (x2 : Int32) (σ : xS) : Option (Unit) :=
  none
theorem wi_X0_lays : wInfS yX0_lays cX0_lays 3 (Option.none : Option Jvm.ClassFile.FieldType) 3 := ⟨q2443, q106, q2444, (by decide +kernel), (by decide +kernel), (by decide +kernel)⟩
set_option maxHeartbeats 4000000 in
set_option maxRecDepth 100000 in
theorem met_X0_lays {l : Launch} {E : xG} {x0 : Option Nat} {x1 : Int32} {x2 : Int32} {σ : xS} {res : Unit} (hf : fX0_lays x0 x1 x2 σ = some res) : xMet l yX0_lays cX0_lays 3 (Option.none : Option Jvm.ClassFile.FieldType) 0 0 E [va_rf x0, .int x1, .int x2] σ none σ := by
  replace hf : none = some res := hf
  refine x_start (by decide) (Nat.le_of_ble_eq_true rfl) ?_
  intro p e s m args below meth c S hnm hR hS ls hl
  obtain ⟨hx, hb, hml, hown, hts⟩ := S.1.1
  have hl : lv_has ls 3 [(0, va_rf x0), (1, .int x1), (2, .int x2)] := hl
  have hn : XN 0 0 (xnx σ) (xns σ) (xnx σ) (xns σ) σ := ⟨Nat.zero_add _, Nat.zero_add _, (rl1.rf σ).1, (rl1.rf σ).2⟩
  refine x_aload_n (r := x0) hx hb dX0_lays_0 rfl (lv_at hl 0 rfl) ?_
  cases hf


noncomputable def fX0_sortOf (x0 : Option Nat) (σ : xS) : Option (Int32) :=
  none
theorem wi_X0_sortOf : wInfS yX0_sortOf cX0_sortOf 1 (Option.some Jvm.ClassFile.FieldType.int) 1 := ⟨q2454, q106, q2455, (by decide +kernel), (by decide +kernel), (by decide +kernel)⟩
set_option maxHeartbeats 4000000 in
set_option maxRecDepth 100000 in
theorem met_X0_sortOf {l : Launch} {E : xG} {x0 : Option Nat} {σ : xS} {res : Int32} (hf : fX0_sortOf x0 σ = some res) : xMet l yX0_sortOf cX0_sortOf 1 (Option.some Jvm.ClassFile.FieldType.int) 0 0 E [va_rf x0] σ (some (.int res)) σ := by
  replace hf : none = some res := hf
  refine x_start (by decide) (Nat.le_of_ble_eq_true rfl) ?_
  intro p e s m args below meth c S hnm hR hS ls hl
  obtain ⟨hx, hb, hml, hown, hts⟩ := S.1.1
  have hl : lv_has ls 1 [(0, va_rf x0)] := hl
  have hn : XN 0 0 (xnx σ) (xns σ) (xnx σ) (xns σ) σ := ⟨Nat.zero_add _, Nat.zero_add _, (rl1.rf σ).1, (rl1.rf σ).2⟩
  refine x_aload_n (r := x0) hx hb dX0_sortOf_0 rfl (lv_at hl 0 rfl) ?_
  cases hf


noncomputable def fX0_load (x1 : Int32) (σ : xS) : Option (Int32) :=
  if (fX0_isSheet x1) = (0 : Int32) then some (-2 : Int32) else (xlr σ 8 x1).bind (fun v1 => (v1).bind (fun a2 => (xgR σ [(3, 0)] a2).bind (fun v3 => if v3 = none then some (-11 : Int32) else (fX0_length v3 σ).bind (fun v4 => if v4 ≤ (0 : Int32) then some (0 : Int32) else (fX1_isPoint (0 : Fin 3) (0 : Int32) σ).bind (fun v5 => if v5 = (0 : Int32) then some (0 : Int32) else (fX0_number v3 (0 : Int32) σ).bind (fun v6 => if (fX0_in v6 (1 : Int32) (9 : Int32)) = (0 : Int32) then some (0 : Int32) else (xlr σ 10 (0 : Int32)).bind (fun v7 => none)))))))
theorem wi_X0_load : wInfV yX0_load cX0_load 4 (Option.some Jvm.ClassFile.FieldType.int) 1 := ⟨q2458, q2459, q106, q2460, (by decide +kernel), (by decide +kernel), (by decide +kernel)⟩
set_option maxHeartbeats 4000000 in
set_option maxRecDepth 100000 in
theorem met_X0_load {l : Launch} {E : xG} {x1 : Int32} {σ : xS} {res : Int32} (hf : fX0_load x1 σ = some res) : xMet l yX0_load cX0_load 4 (Option.some Jvm.ClassFile.FieldType.int) 2 43 E [.ref (xo E), .int x1] σ (some (.int res)) σ := by
  replace hf : (if (fX0_isSheet x1) = (0 : Int32) then some (-2 : Int32) else (xlr σ 8 x1).bind (fun v1 => (v1).bind (fun a2 => (xgR σ [(3, 0)] a2).bind (fun v3 => if v3 = none then some (-11 : Int32) else (fX0_length v3 σ).bind (fun v4 => if v4 ≤ (0 : Int32) then some (0 : Int32) else (fX1_isPoint (0 : Fin 3) (0 : Int32) σ).bind (fun v5 => if v5 = (0 : Int32) then some (0 : Int32) else (fX0_number v3 (0 : Int32) σ).bind (fun v6 => if (fX0_in v6 (1 : Int32) (9 : Int32)) = (0 : Int32) then some (0 : Int32) else (xlr σ 10 (0 : Int32)).bind (fun v7 => none)))))))) = some res := hf
  refine x_start (by decide) (Nat.le_of_ble_eq_true rfl) ?_
  intro p e s m args below meth c S hnm hR hS ls hl
  obtain ⟨hx, hb, hml, hown, hts⟩ := S.1.1
  have hl : lv_has ls 4 [(0, .ref (xo E)), (1, .int x1)] := hl
  have hn : XN 0 0 (xnx σ) (xns σ) (xnx σ) (xns σ) σ := ⟨Nat.zero_add _, Nat.zero_add _, (rl1.rf σ).1, (rl1.rf σ).2⟩
  refine lv_iload_n hx hb dX0_load_0 rfl (lv_at hl 1 rfl) ?_
  refine s_call (As := [.int x1]) (rest := []) S.1.1 (met_X0_isSheet rfl) wi_X0_isSheet q1568 ⟨rfl, rfl⟩ ⟨Nat.le_of_ble_eq_true rfl, Nat.le_of_ble_eq_true rfl⟩ rfl hl.1 rfl (Nat.le_of_ble_eq_true rfl) dX0_load_1 hn.cs ?_
  refine lv_if_ne (tgt := 10) hx hb dX0_load_4 (by decide) (fun c_4 => ?_) (fun c_4 => ?_)
  · replace hf := o_f hf c_4
    refine lv_aload_n hx hb dX0_load_10 rfl (lv_at hl 0 rfl) ?_
    refine x_oget (k := 30) (v := .ref (xar E 8)) S hR (lk_X0_75 _ List.mem_cons_self) rfl dX0_load_11 ?_
    refine lv_iload_n hx hb dX0_load_14 rfl (lv_at hl 1 rfl) ?_
    refine k_bind hf (fun v1 hv1 hf => ?_)
    refine x_slr S hR hv1 dX0_load_15 ?_
    refine k_bind hf (fun a2 ha2 hf => ?_)
    rw [rf_some ha2]
    refine k_bind hf (fun v3 hv3 hf => ?_)
    refine x_getN S hR lk_X0_384 (xgR_g hv3) dX0_load_16 ?_
    refine x_astore_n (r := v3) (lv' := [(2, va_rf v3), (0, .ref (xo E)), (1, .int x1)]) hx hb dX0_load_19 rfl hl (by decide) rfl (fun ls hl => ?_)
    refine x_aload_n (r := v3) hx hb dX0_load_20 rfl (lv_at hl 0 rfl) ?_
    refine x_ifnonnull (r := v3) (tgt := 27) hx hb dX0_load_21 (by decide) (fun c_21 => ?_) (fun c_21 => ?_)
    · replace hf := o_f hf c_21
      refine lv_iconst (v := 0) hx hb dX0_load_27 (by decide) ?_
      refine lv_istore_n (lv' := [(3, .int (0 : Int32)), (2, va_rf v3), (0, .ref (xo E)), (1, .int x1)]) hx hb dX0_load_28 rfl hl (by decide) rfl (fun ls hl => ?_)
      refine lv_iload_n hx hb dX0_load_29 rfl (lv_at hl 0 rfl) ?_
      refine x_aload_n (r := v3) hx hb dX0_load_30 rfl (lv_at hl 1 rfl) ?_
      refine k_bind hf (fun v4 hv4 hf => ?_)
      refine x_callS (As := [va_rf v3]) (rest := [.int (0 : Int32)]) S hR hS hn (met_X0_length hv4) (rl1.rf _) (hn.b (rl0.rf _)) wi_X0_length q1571 ⟨Nat.le_of_ble_eq_true rfl, Nat.le_of_ble_eq_true rfl⟩ rfl hl.1 rfl (Nat.le_of_ble_eq_true rfl) dX0_load_31 (fun H locs cells slots hR hS hn => ?_)
      refine lv_icmp_ge (tgt := 98) hx hb dX0_load_34 (by decide) (fun c_34 => ?_) (fun c_34 => ?_)
      · replace hf := o_t hf c_34
        refine lv_iload_n hx hb dX0_load_98 rfl (lv_at hl 0 rfl) ?_
        obtain rfl := Option.some.inj hf
        exact x_iret S hR hS hn rfl dX0_load_99
      · replace hf := o_f hf c_34
        refine lv_aload_n hx hb dX0_load_37 rfl (lv_at hl 2 rfl) ?_
        refine x_oget (k := 0) (v := .ref (xnt E (0 : Fin 3))) S hR (lk_X0_10 _ List.mem_cons_self) rfl dX0_load_38 ?_
        refine lv_iload_n hx hb dX0_load_41 rfl (lv_at hl 0 rfl) ?_
        refine k_bind hf (fun v5 hv5 hf => ?_)
        refine x_call (C := RX1) (As := [.int (0 : Int32)]) (rest := []) S hR hS hn (met_X1_isPoint hv5) (rl1.rf _) (hn.b (rl0.rf _)) wi_X1_isPoint (xrc S.2 hR (ci := 1) rfl (Or.inr (Or.inl ⟨_, rfl, rfl⟩))) rfl q559 ⟨Nat.le_of_ble_eq_true rfl, Nat.le_of_ble_eq_true rfl⟩ rfl hl.1 rfl (Nat.le_of_ble_eq_true rfl) dX0_load_42 (fun H locs cells slots hR hS hn => ?_)
        refine lv_if_eq (tgt := 98) hx hb dX0_load_45 (by decide) (fun c_45 => ?_) (fun c_45 => ?_)
        · replace hf := o_t hf c_45
          refine lv_iload_n hx hb dX0_load_98 rfl (lv_at hl 0 rfl) ?_
          obtain rfl := Option.some.inj hf
          exact x_iret S hR hS hn rfl dX0_load_99
        · replace hf := o_f hf c_45
          refine x_aload_n (r := v3) hx hb dX0_load_48 rfl (lv_at hl 1 rfl) ?_
          refine lv_iload_n hx hb dX0_load_49 rfl (lv_at hl 0 rfl) ?_
          refine k_bind hf (fun v6 hv6 hf => ?_)
          refine x_callS (As := [va_rf v3, .int (0 : Int32)]) (rest := []) S hR hS hn (met_X0_number hv6) (rl1.rf _) (hn.b (rl0.rf _)) wi_X0_number q1577 ⟨Nat.le_of_ble_eq_true rfl, Nat.le_of_ble_eq_true rfl⟩ rfl hl.1 rfl (Nat.le_of_ble_eq_true rfl) dX0_load_50 (fun H locs cells slots hR hS hn => ?_)
          refine lv_iconst (v := 1) hx hb dX0_load_53 (by decide) ?_
          refine lv_bipush (v := 9) hx hb dX0_load_54 (by decide) ?_
          refine s_call (As := [.int v6, .int (1 : Int32), .int (9 : Int32)]) (rest := []) S.1.1 (met_X0_in rfl) wi_X0_in q479 ⟨rfl, rfl⟩ ⟨Nat.le_of_ble_eq_true rfl, Nat.le_of_ble_eq_true rfl⟩ rfl hl.1 rfl (Nat.le_of_ble_eq_true rfl) dX0_load_56 hn.cs ?_
          refine lv_if_eq (tgt := 98) hx hb dX0_load_59 (by decide) (fun c_59 => ?_) (fun c_59 => ?_)
          · replace hf := o_t hf c_59
            refine lv_iload_n hx hb dX0_load_98 rfl (lv_at hl 0 rfl) ?_
            obtain rfl := Option.some.inj hf
            exact x_iret S hR hS hn rfl dX0_load_99
          · replace hf := o_f hf c_59
            refine lv_aload_n hx hb dX0_load_62 rfl (lv_at hl 2 rfl) ?_
            refine x_oget (k := 0) (v := .ref (xnt E (0 : Fin 3))) S hR (lk_X0_10 _ List.mem_cons_self) rfl dX0_load_63 ?_
            refine x_ngetN (j := (0 : Fin 3)) (k := 0) (v := .ref (xar E 10)) S hR (lk_X0_138 _ List.mem_cons_self) rfl dX0_load_66 ?_
            refine lv_iload_n hx hb dX0_load_69 rfl (lv_at hl 0 rfl) ?_
            refine lv_aload_n hx hb dX0_load_70 rfl (lv_at hl 2 rfl) ?_
            refine x_oget (k := 0) (v := .ref (xnt E (0 : Fin 3))) S hR (lk_X0_10 _ List.mem_cons_self) rfl dX0_load_71 ?_
            refine x_ngetN (j := (0 : Fin 3)) (k := 0) (v := .ref (xar E 10)) S hR (lk_X0_138 _ List.mem_cons_self) rfl dX0_load_74 ?_
            refine lv_iload_n hx hb dX0_load_77 rfl (lv_at hl 0 rfl) ?_
            refine k_bind hf (fun v7 hv7 hf => ?_)
            refine x_slr S hR hv7 dX0_load_78 ?_
            cases hf
    · replace hf := o_t hf c_21
      refine lv_bipush (v := -11) hx hb dX0_load_24 (by decide) ?_
      obtain rfl := Option.some.inj hf
      exact x_iret S hR hS hn rfl dX0_load_26
  · replace hf := o_t hf c_4
    refine lv_bipush (v := -2) hx hb dX0_load_7 (by decide) ?_
    obtain rfl := Option.some.inj hf
    exact x_iret S hR hS hn rfl dX0_load_9


noncomputable def LX0_isHalf_36 (y1 : Option Nat) (y2 : Int32) (y3 : Int32) (σ : xS) (q : Int32 × Int32) : Option ((Int32 × Int32) ⊕ (Int32)) :=
  if y2 ≤ q.2 then some (Sum.inr q.1) else if q.1 = (0 : Int32) then some (Sum.inr q.1) else (fX1_areJoined (0 : Fin 3) q.2 y2 σ).bind (fun v2 => if v2 = (0 : Int32) then some (Sum.inl ((1 : Int32), q.2 + (1 : Int32))) else (fX0_number y1 q.2 σ).bind (fun v3 => if (y3 + v3) < (2 : Int32) then some (Sum.inl ((0 : Int32), q.2 + (1 : Int32))) else some (Sum.inl ((1 : Int32), q.2 + (1 : Int32)))))
noncomputable def JX0_isHalf_31 (y1 : Option Nat) (y2 : Int32) (y3 : Int32) (z0 : Int32) (σ : xS) : Option (Int32) :=
  (lpw (LX0_isHalf_36 y1 y2 y3 σ) (z0, (0 : Int32))).bind (fun b4 => some (b4 &&& 1))
noncomputable def fX0_isHalf (x1 : Option Nat) (x2 : Int32) (σ : xS) : Option (Int32) :=
  (fX0_number x1 x2 σ).bind (fun v1 => if (fX0_in v1 (0 : Int32) (2 : Int32)) = (0 : Int32) then JX0_isHalf_31 x1 x2 v1 (0 : Int32) σ else (fX1_isPoint (0 : Fin 3) x2 σ).bind (fun v5 => if v5 = (0 : Int32) then JX0_isHalf_31 x1 x2 v1 (0 : Int32) σ else JX0_isHalf_31 x1 x2 v1 (1 : Int32) σ))
theorem wi_X0_isHalf : wInfV yX0_isHalf cX0_isHalf 6 (Option.some Jvm.ClassFile.FieldType.boolean) 2 := ⟨q2467, qs55, q106, q2468, (by decide +kernel), (by decide +kernel), (by decide +kernel)⟩
set_option maxHeartbeats 4000000 in
set_option maxRecDepth 100000 in
theorem wbLX0_isHalf_36 {l : Launch} {E : xG} {p : Program} {e : Env} {s : State} {m : MethodId} {args : Array Value} {below : List Frame} {meth : Method} {c : Code} {Q : State → Prop} {n0 s0 nf sf : Nat} {y1 : Option Nat} {y2 : Int32} {y3 : Int32} {σ : xS} {q : Int32 × Int32} {res : (Int32 × Int32) ⊕ (Int32)} (S : xSt E RX0 p m c cX0_isHalf 6 s args meth (Option.some Jvm.ClassFile.FieldType.boolean)) (hf : LX0_isHalf_36 y1 y2 y3 σ q = some res) (hK : ∀ q, res = Sum.inl q → (∀ (H : Heap) (locs : List Loc) (cells slots : Nat) (ls : Array Slot), xR E σ H → va_S (xAA E) s.heap H locs → XN cells slots n0 s0 nf sf σ → lv_has ls 6 [(0, .ref (xo E)), (1, va_rf y1), (2, .int y2), (3, .int y3), (4, .int q.1), (5, .int q.2)] → W p l e (xRm 2 43 (nf - n0) (sf - s0)) s m args below meth c H locs cells slots Q (F0 m 36 ls []))) (hE85 : ∀ b, res = Sum.inr b → (∀ (H : Heap) (locs : List Loc) (cells slots : Nat) (ls : Array Slot), xR E σ H → va_S (xAA E) s.heap H locs → XN cells slots n0 s0 nf sf σ → lv_has ls 6 [(4, .int b)] → W p l e (xRm 2 43 (nf - n0) (sf - s0)) s m args below meth c H locs cells slots Q (F0 m 85 ls []))) : (∀ (H : Heap) (locs : List Loc) (cells slots : Nat) (ls : Array Slot), xR E σ H → va_S (xAA E) s.heap H locs → XN cells slots n0 s0 nf sf σ → lv_has ls 6 [(0, .ref (xo E)), (1, va_rf y1), (2, .int y2), (3, .int y3), (4, .int q.1), (5, .int q.2)] → W p l e (xRm 2 43 (nf - n0) (sf - s0)) s m args below meth c H locs cells slots Q (F0 m 36 ls [])) := by
  replace hf : (if y2 ≤ q.2 then some (Sum.inr q.1) else if q.1 = (0 : Int32) then some (Sum.inr q.1) else (fX1_areJoined (0 : Fin 3) q.2 y2 σ).bind (fun v2 => if v2 = (0 : Int32) then some (Sum.inl ((1 : Int32), q.2 + (1 : Int32))) else (fX0_number y1 q.2 σ).bind (fun v3 => if (y3 + v3) < (2 : Int32) then some (Sum.inl ((0 : Int32), q.2 + (1 : Int32))) else some (Sum.inl ((1 : Int32), q.2 + (1 : Int32)))))) = some res := hf
  obtain ⟨hx, hb, hml, hown, hts⟩ := S.1.1
  intro H locs cells slots ls hR hS hn hl
  refine lv_iload hx hb dX0_isHalf_36 (lv_at hl 5 rfl) ?_
  refine lv_iload_n hx hb dX0_isHalf_38 rfl (lv_at hl 2 rfl) ?_
  refine lv_icmp_ge (tgt := 85) hx hb dX0_isHalf_39 (by decide) (fun c_39 => ?_) (fun c_39 => ?_)
  · replace hf := o_t hf c_39
    exact hE85 _ (Option.some.inj hf).symm _ _ _ _ _ hR hS hn (lv_sub (l' := [(4, .int q.1)]) hl [4] rfl)
  · replace hf := o_f hf c_39
    refine lv_iload hx hb dX0_isHalf_42 (lv_at hl 4 rfl) ?_
    refine lv_if_eq (tgt := 85) hx hb dX0_isHalf_44 (by decide) (fun c_44 => ?_) (fun c_44 => ?_)
    · replace hf := o_t hf c_44
      exact hE85 _ (Option.some.inj hf).symm _ _ _ _ _ hR hS hn (lv_sub (l' := [(4, .int q.1)]) hl [4] rfl)
    · replace hf := o_f hf c_44
      refine lv_aload_n hx hb dX0_isHalf_47 rfl (lv_at hl 0 rfl) ?_
      refine x_oget (k := 0) (v := .ref (xnt E (0 : Fin 3))) S hR (lk_X0_10 _ List.mem_cons_self) rfl dX0_isHalf_48 ?_
      refine lv_iload hx hb dX0_isHalf_51 (lv_at hl 5 rfl) ?_
      refine lv_iload_n hx hb dX0_isHalf_53 rfl (lv_at hl 2 rfl) ?_
      refine k_bind hf (fun v2 hv2 hf => ?_)
      refine x_call (C := RX1) (As := [.int q.2, .int y2]) (rest := []) S hR hS hn (met_X1_areJoined hv2) (rl1.rf _) (hn.b (rl0.rf _)) wi_X1_areJoined (xrc S.2 hR (ci := 1) rfl (Or.inr (Or.inl ⟨_, rfl, rfl⟩))) rfl q564 ⟨Nat.le_of_ble_eq_true rfl, Nat.le_of_ble_eq_true rfl⟩ rfl hl.1 rfl (Nat.le_of_ble_eq_true rfl) dX0_isHalf_54 (fun H locs cells slots hR hS hn => ?_)
      refine lv_if_eq (tgt := 72) hx hb dX0_isHalf_57 (by decide) (fun c_57 => ?_) (fun c_57 => ?_)
      · replace hf := o_t hf c_57
        refine lv_iconst (v := 1) hx hb dX0_isHalf_72 (by decide) ?_
        refine lv_goto (tgt := 77) hx hb dX0_isHalf_73 (by decide) ?_
        refine lv_istore (lv' := [(4, .int (1 : Int32)), (0, .ref (xo E)), (1, va_rf y1), (2, .int y2), (3, .int y3), (5, .int q.2)]) hx hb dX0_isHalf_77 hl (by decide) rfl (fun ls hl => ?_)
        refine lv_iinc (lv' := [(5, .int (q.2 + (1 : Int32))), (4, .int (1 : Int32)), (0, .ref (xo E)), (1, va_rf y1), (2, .int y2), (3, .int y3)]) hx hb dX0_isHalf_79 hl (k := 5) rfl (m_inc (by decide)) (by decide) rfl (fun ls hl => ?_)
        refine lv_goto (tgt := 36) hx hb dX0_isHalf_82 (by decide) ?_
        exact hK _ (Option.some.inj hf).symm _ _ _ _ _ hR hS hn (lv_sub (l' := [(0, .ref (xo E)), (1, va_rf y1), (2, .int y2), (3, .int y3), (4, .int (1 : Int32)), (5, .int (q.2 + (1 : Int32)))]) hl [2, 3, 4, 5, 1, 0] rfl)
      · replace hf := o_f hf c_57
        refine lv_iload_n hx hb dX0_isHalf_60 rfl (lv_at hl 3 rfl) ?_
        refine x_aload_n (r := y1) hx hb dX0_isHalf_61 rfl (lv_at hl 1 rfl) ?_
        refine lv_iload hx hb dX0_isHalf_62 (lv_at hl 5 rfl) ?_
        refine k_bind hf (fun v3 hv3 hf => ?_)
        refine x_callS (As := [va_rf y1, .int q.2]) (rest := [.int y3]) S hR hS hn (met_X0_number hv3) (rl1.rf _) (hn.b (rl0.rf _)) wi_X0_number q1577 ⟨Nat.le_of_ble_eq_true rfl, Nat.le_of_ble_eq_true rfl⟩ rfl hl.1 rfl (Nat.le_of_ble_eq_true rfl) dX0_isHalf_64 (fun H locs cells slots hR hS hn => ?_)
        refine lv_iadd hx hb dX0_isHalf_67 ?_
        refine lv_iconst (v := 2) hx hb dX0_isHalf_68 (by decide) ?_
        refine lv_icmp_lt (tgt := 76) hx hb dX0_isHalf_69 (by decide) (fun c_69 => ?_) (fun c_69 => ?_)
        · replace hf := o_t hf c_69
          refine lv_iconst (v := 0) hx hb dX0_isHalf_76 (by decide) ?_
          refine lv_istore (lv' := [(4, .int (0 : Int32)), (0, .ref (xo E)), (1, va_rf y1), (2, .int y2), (3, .int y3), (5, .int q.2)]) hx hb dX0_isHalf_77 hl (by decide) rfl (fun ls hl => ?_)
          refine lv_iinc (lv' := [(5, .int (q.2 + (1 : Int32))), (4, .int (0 : Int32)), (0, .ref (xo E)), (1, va_rf y1), (2, .int y2), (3, .int y3)]) hx hb dX0_isHalf_79 hl (k := 5) rfl (m_inc (by decide)) (by decide) rfl (fun ls hl => ?_)
          refine lv_goto (tgt := 36) hx hb dX0_isHalf_82 (by decide) ?_
          exact hK _ (Option.some.inj hf).symm _ _ _ _ _ hR hS hn (lv_sub (l' := [(0, .ref (xo E)), (1, va_rf y1), (2, .int y2), (3, .int y3), (4, .int (0 : Int32)), (5, .int (q.2 + (1 : Int32)))]) hl [2, 3, 4, 5, 1, 0] rfl)
        · replace hf := o_f hf c_69
          refine lv_iconst (v := 1) hx hb dX0_isHalf_72 (by decide) ?_
          refine lv_goto (tgt := 77) hx hb dX0_isHalf_73 (by decide) ?_
          refine lv_istore (lv' := [(4, .int (1 : Int32)), (0, .ref (xo E)), (1, va_rf y1), (2, .int y2), (3, .int y3), (5, .int q.2)]) hx hb dX0_isHalf_77 hl (by decide) rfl (fun ls hl => ?_)
          refine lv_iinc (lv' := [(5, .int (q.2 + (1 : Int32))), (4, .int (1 : Int32)), (0, .ref (xo E)), (1, va_rf y1), (2, .int y2), (3, .int y3)]) hx hb dX0_isHalf_79 hl (k := 5) rfl (m_inc (by decide)) (by decide) rfl (fun ls hl => ?_)
          refine lv_goto (tgt := 36) hx hb dX0_isHalf_82 (by decide) ?_
          exact hK _ (Option.some.inj hf).symm _ _ _ _ _ hR hS hn (lv_sub (l' := [(0, .ref (xo E)), (1, va_rf y1), (2, .int y2), (3, .int y3), (4, .int (1 : Int32)), (5, .int (q.2 + (1 : Int32)))]) hl [2, 3, 4, 5, 1, 0] rfl)
set_option maxHeartbeats 4000000 in
set_option maxRecDepth 100000 in
theorem wLX0_isHalf_36 {l : Launch} {E : xG} {p : Program} {e : Env} {s : State} {m : MethodId} {args : Array Value} {below : List Frame} {meth : Method} {c : Code} {Q : State → Prop} {n0 s0 nf sf : Nat} {y1 : Option Nat} {y2 : Int32} {y3 : Int32} {σ : xS} {q : Int32 × Int32} {res : Int32} (S : xSt E RX0 p m c cX0_isHalf 6 s args meth (Option.some Jvm.ClassFile.FieldType.boolean)) (h : lpw (LX0_isHalf_36 y1 y2 y3 σ) q = some res) (hE85 : ∀ b, res = b → (∀ (H : Heap) (locs : List Loc) (cells slots : Nat) (ls : Array Slot), xR E σ H → va_S (xAA E) s.heap H locs → XN cells slots n0 s0 nf sf σ → lv_has ls 6 [(4, .int b)] → W p l e (xRm 2 43 (nf - n0) (sf - s0)) s m args below meth c H locs cells slots Q (F0 m 85 ls []))) : (∀ (H : Heap) (locs : List Loc) (cells slots : Nat) (ls : Array Slot), xR E σ H → va_S (xAA E) s.heap H locs → XN cells slots n0 s0 nf sf σ → lv_has ls 6 [(0, .ref (xo E)), (1, va_rf y1), (2, .int y2), (3, .int y3), (4, .int q.1), (5, .int q.2)] → W p l e (xRm 2 43 (nf - n0) (sf - s0)) s m args below meth c H locs cells slots Q (F0 m 36 ls [])) :=
  lpw_go _ (fun q => (∀ (H : Heap) (locs : List Loc) (cells slots : Nat) (ls : Array Slot), xR E σ H → va_S (xAA E) s.heap H locs → XN cells slots n0 s0 nf sf σ → lv_has ls 6 [(0, .ref (xo E)), (1, va_rf y1), (2, .int y2), (3, .int y3), (4, .int q.1), (5, .int q.2)] → W p l e (xRm 2 43 (nf - n0) (sf - s0)) s m args below meth c H locs cells slots Q (F0 m 36 ls []))) (fun b0 => (∀ b, b0 = b → (∀ (H : Heap) (locs : List Loc) (cells slots : Nat) (ls : Array Slot), xR E σ H → va_S (xAA E) s.heap H locs → XN cells slots n0 s0 nf sf σ → lv_has ls 6 [(4, .int b)] → W p l e (xRm 2 43 (nf - n0) (sf - s0)) s m args below meth c H locs cells slots Q (F0 m 85 ls [])))) (fun q x hf hK hX => wbLX0_isHalf_36 S hf hK (fun b eb => (hX _ eb) b rfl)) q res h hE85
set_option maxHeartbeats 4000000 in
set_option maxRecDepth 100000 in
theorem wJX0_isHalf_31 {l : Launch} {E : xG} {p : Program} {e : Env} {s : State} {m : MethodId} {args : Array Value} {below : List Frame} {meth : Method} {c : Code} {σ0 : xS} {y1 : Option Nat} {y2 : Int32} {y3 : Int32} {z0 : Int32} {σ : xS} {res : Int32} (S : xSt E RX0 p m c cX0_isHalf 6 s args meth (Option.some Jvm.ClassFile.FieldType.boolean)) (hf : JX0_isHalf_31 y1 y2 y3 z0 σ = some res) : ∀ (H : Heap) (locs : List Loc) (cells slots : Nat) (ls : Array Slot), xR E σ H → va_S (xAA E) s.heap H locs → XN cells slots (xnx σ0) (xns σ0) (xnx σ) (xns σ) σ → lv_has ls 6 [(0, .ref (xo E)), (1, va_rf y1), (2, .int y2), (3, .int y3)] → W p l e (xRm 2 43 ((xnx σ) - (xnx σ0)) ((xns σ) - (xns σ0))) s m args below meth c H locs cells slots (MQ below (xQ E (some (.int res)) σ) args s (xnx σ - xnx σ0) (xns σ - xns σ0) (xAA E)) (F0 m 31 ls [.int z0]) := by
  replace hf : ((lpw (LX0_isHalf_36 y1 y2 y3 σ) (z0, (0 : Int32))).bind (fun b4 => some (b4 &&& 1))) = some res := hf
  obtain ⟨hx, hb, hml, hown, hts⟩ := S.1.1
  intro H locs cells slots ls hR hS hn hl
  refine lv_istore (lv' := [(4, .int z0), (0, .ref (xo E)), (1, va_rf y1), (2, .int y2), (3, .int y3)]) hx hb dX0_isHalf_31 hl (by decide) rfl (fun ls hl => ?_)
  refine lv_iconst (v := 0) hx hb dX0_isHalf_33 (by decide) ?_
  refine lv_istore (lv' := [(5, .int (0 : Int32)), (4, .int z0), (0, .ref (xo E)), (1, va_rf y1), (2, .int y2), (3, .int y3)]) hx hb dX0_isHalf_34 hl (by decide) rfl (fun ls hl => ?_)
  refine k_bind hf (fun b4 hb4 hf => ?_)
  refine wLX0_isHalf_36 S hb4 ?_ _ _ _ _ _ hR hS hn (lv_sub (l' := [(0, .ref (xo E)), (1, va_rf y1), (2, .int y2), (3, .int y3), (4, .int z0), (5, .int (0 : Int32))]) hl [2, 3, 4, 5, 1, 0] rfl)
  · intro b eb; subst eb; intro H locs cells slots ls hR hS hn hl
    refine lv_iload hx hb dX0_isHalf_85 (lv_at hl 0 rfl) ?_
    obtain rfl := Option.some.inj hf
    exact x_iret S hR hS hn rfl dX0_isHalf_87
set_option maxHeartbeats 4000000 in
set_option maxRecDepth 100000 in
theorem met_X0_isHalf {l : Launch} {E : xG} {x1 : Option Nat} {x2 : Int32} {σ : xS} {res : Int32} (hf : fX0_isHalf x1 x2 σ = some res) : xMet l yX0_isHalf cX0_isHalf 6 (Option.some Jvm.ClassFile.FieldType.boolean) 2 43 E [.ref (xo E), va_rf x1, .int x2] σ (some (.int res)) σ := by
  replace hf : ((fX0_number x1 x2 σ).bind (fun v1 => if (fX0_in v1 (0 : Int32) (2 : Int32)) = (0 : Int32) then JX0_isHalf_31 x1 x2 v1 (0 : Int32) σ else (fX1_isPoint (0 : Fin 3) x2 σ).bind (fun v5 => if v5 = (0 : Int32) then JX0_isHalf_31 x1 x2 v1 (0 : Int32) σ else JX0_isHalf_31 x1 x2 v1 (1 : Int32) σ))) = some res := hf
  refine x_start (by decide) (Nat.le_of_ble_eq_true rfl) ?_
  intro p e s m args below meth c S hnm hR hS ls hl
  obtain ⟨hx, hb, hml, hown, hts⟩ := S.1.1
  have hl : lv_has ls 6 [(0, .ref (xo E)), (1, va_rf x1), (2, .int x2)] := hl
  have hn : XN 0 0 (xnx σ) (xns σ) (xnx σ) (xns σ) σ := ⟨Nat.zero_add _, Nat.zero_add _, (rl1.rf σ).1, (rl1.rf σ).2⟩
  refine x_aload_n (r := x1) hx hb dX0_isHalf_0 rfl (lv_at hl 1 rfl) ?_
  refine lv_iload_n hx hb dX0_isHalf_1 rfl (lv_at hl 2 rfl) ?_
  refine k_bind hf (fun v1 hv1 hf => ?_)
  refine x_callS (As := [va_rf x1, .int x2]) (rest := []) S hR hS hn (met_X0_number hv1) (rl1.rf _) (hn.b (rl0.rf _)) wi_X0_number q1577 ⟨Nat.le_of_ble_eq_true rfl, Nat.le_of_ble_eq_true rfl⟩ rfl hl.1 rfl (Nat.le_of_ble_eq_true rfl) dX0_isHalf_2 (fun H locs cells slots hR hS hn => ?_)
  refine lv_istore_n (lv' := [(3, .int v1), (0, .ref (xo E)), (1, va_rf x1), (2, .int x2)]) hx hb dX0_isHalf_5 rfl hl (by decide) rfl (fun ls hl => ?_)
  refine lv_iload_n hx hb dX0_isHalf_6 rfl (lv_at hl 0 rfl) ?_
  refine lv_iconst (v := 0) hx hb dX0_isHalf_7 (by decide) ?_
  refine lv_iconst (v := 2) hx hb dX0_isHalf_8 (by decide) ?_
  refine s_call (As := [.int v1, .int (0 : Int32), .int (2 : Int32)]) (rest := []) S.1.1 (met_X0_in rfl) wi_X0_in q479 ⟨rfl, rfl⟩ ⟨Nat.le_of_ble_eq_true rfl, Nat.le_of_ble_eq_true rfl⟩ rfl hl.1 rfl (Nat.le_of_ble_eq_true rfl) dX0_isHalf_9 hn.cs ?_
  refine lv_if_eq (tgt := 30) hx hb dX0_isHalf_12 (by decide) (fun c_12 => ?_) (fun c_12 => ?_)
  · replace hf := o_t hf c_12
    refine lv_iconst (v := 0) hx hb dX0_isHalf_30 (by decide) ?_
    exact wJX0_isHalf_31 S hf _ _ _ _ _ hR hS hn (lv_sub (l' := [(0, .ref (xo E)), (1, va_rf x1), (2, .int x2), (3, .int v1)]) hl [1, 2, 3, 0] rfl)
  · replace hf := o_f hf c_12
    refine lv_aload_n hx hb dX0_isHalf_15 rfl (lv_at hl 1 rfl) ?_
    refine x_oget (k := 0) (v := .ref (xnt E (0 : Fin 3))) S hR (lk_X0_10 _ List.mem_cons_self) rfl dX0_isHalf_16 ?_
    refine lv_iload_n hx hb dX0_isHalf_19 rfl (lv_at hl 3 rfl) ?_
    refine k_bind hf (fun v5 hv5 hf => ?_)
    refine x_call (C := RX1) (As := [.int x2]) (rest := []) S hR hS hn (met_X1_isPoint hv5) (rl1.rf _) (hn.b (rl0.rf _)) wi_X1_isPoint (xrc S.2 hR (ci := 1) rfl (Or.inr (Or.inl ⟨_, rfl, rfl⟩))) rfl q559 ⟨Nat.le_of_ble_eq_true rfl, Nat.le_of_ble_eq_true rfl⟩ rfl hl.1 rfl (Nat.le_of_ble_eq_true rfl) dX0_isHalf_20 (fun H locs cells slots hR hS hn => ?_)
    refine lv_if_eq (tgt := 30) hx hb dX0_isHalf_23 (by decide) (fun c_23 => ?_) (fun c_23 => ?_)
    · replace hf := o_t hf c_23
      refine lv_iconst (v := 0) hx hb dX0_isHalf_30 (by decide) ?_
      exact wJX0_isHalf_31 S hf _ _ _ _ _ hR hS hn (lv_sub (l' := [(0, .ref (xo E)), (1, va_rf x1), (2, .int x2), (3, .int v1)]) hl [1, 2, 3, 0] rfl)
    · replace hf := o_f hf c_23
      refine lv_iconst (v := 1) hx hb dX0_isHalf_26 (by decide) ?_
      refine lv_goto (tgt := 31) hx hb dX0_isHalf_27 (by decide) ?_
      exact wJX0_isHalf_31 S hf _ _ _ _ _ hR hS hn (lv_sub (l' := [(0, .ref (xo E)), (1, va_rf x1), (2, .int x2), (3, .int v1)]) hl [1, 2, 3, 0] rfl)
