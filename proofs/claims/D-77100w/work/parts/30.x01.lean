/-! the component, walked: X1_init X0_init X0_has J1_bitCount X0_ones X1_lines X2_init X0_lonelyRound X0_crowdedRound -/
theorem lk_X1_11 : ∀ q ∈ ([(1, 0)] : List (Nat × Nat)), wLk RX1 11 q.1 q.2 := List.forall_mem_cons.mpr ⟨⟨RX1, TX1, 4, "LinesTouched$Net", rfl, by decide, in_X1, q185, Or.inl rfl⟩, fun _ h => absurd h List.not_mem_nil⟩
theorem pt_X1_11 : ∀ q ∈ ([(1, 0)] : List (Nat × Nat)), wLk RX1 11 q.1 q.2 ∧ wPt q.1 q.2 (.array (.object "LinesTouched$Point")) true RX1 := List.forall_mem_cons.mpr ⟨⟨⟨RX1, TX1, 4, "LinesTouched$Net", rfl, by decide, in_X1, q185, Or.inl rfl⟩, ⟨RX1, TX1, 4, tyX1, rfl, by decide, rfl, by decide +kernel, nmX1, tyX1_ok, fun _ => rfl⟩⟩, fun _ h => absurd h List.not_mem_nil⟩
theorem lk_X1_17 : ∀ q ∈ ([(1, 1)] : List (Nat × Nat)), wLk RX1 17 q.1 q.2 := List.forall_mem_cons.mpr ⟨⟨RX1, TX1, 4, "LinesTouched$Net", rfl, by decide, in_X1, q187, Or.inl rfl⟩, fun _ h => absurd h List.not_mem_nil⟩
theorem pt_X1_17 : ∀ q ∈ ([(1, 1)] : List (Nat × Nat)), wLk RX1 17 q.1 q.2 ∧ wPt q.1 q.2 (.array .int) true RX1 := List.forall_mem_cons.mpr ⟨⟨⟨RX1, TX1, 4, "LinesTouched$Net", rfl, by decide, in_X1, q187, Or.inl rfl⟩, ⟨RX1, TX1, 4, tyX1, rfl, by decide, rfl, by decide +kernel, nmX1, tyX1_ok, fun _ => rfl⟩⟩, fun _ h => absurd h List.not_mem_nil⟩
theorem lk_X1_21 : ∀ q ∈ ([(1, 3)] : List (Nat × Nat)), wLk RX1 21 q.1 q.2 := List.forall_mem_cons.mpr ⟨⟨RX1, TX1, 4, "LinesTouched$Net", rfl, by decide, in_X1, q193, Or.inl rfl⟩, fun _ h => absurd h List.not_mem_nil⟩
theorem pt_X1_21 : ∀ q ∈ ([(1, 3)] : List (Nat × Nat)), wLk RX1 21 q.1 q.2 ∧ wPt q.1 q.2 .int false RX1 := List.forall_mem_cons.mpr ⟨⟨⟨RX1, TX1, 4, "LinesTouched$Net", rfl, by decide, in_X1, q193, Or.inl rfl⟩, ⟨RX1, TX1, 4, tyX1, rfl, by decide, rfl, by decide +kernel, nmX1, tyX1_ok, fun h => absurd h (by decide)⟩⟩, fun _ h => absurd h List.not_mem_nil⟩
noncomputable def fX1_init (a : Nat) (σ : xS) : Option (xS) :=
  (xna σ 6 (12 : Int32)).bind (fun n1 => (xp n1.2 [(1, 0)] a (.ref n1.1)).bind (fun σ2 => (xna σ2 1 (12 : Int32)).bind (fun n3 => (xp n3.2 [(1, 1)] a (.ref n3.1)).bind (fun σ4 => (xp σ4 [(1, 3)] a (.int (1 : Int32))).bind (fun σ5 => some σ5)))))
theorem wi_X1_init : wInfI yX1_init cX1_init 1 0 := ⟨q180, q107, q181, rfl, (by decide +kernel), (by decide +kernel), (by decide +kernel)⟩
set_option maxHeartbeats 4000000 in
set_option maxRecDepth 100000 in
theorem r1_X1_init {a : Nat} {σ : xS} {res : xS} (hf : fX1_init a σ = some res) : rl1 σ res := by
  replace hf : ((xna σ 6 (12 : Int32)).bind (fun n1 => (xp n1.2 [(1, 0)] a (.ref n1.1)).bind (fun σ2 => (xna σ2 1 (12 : Int32)).bind (fun n3 => (xp n3.2 [(1, 1)] a (.ref n3.1)).bind (fun σ4 => (xp σ4 [(1, 3)] a (.int (1 : Int32))).bind (fun σ5 => some σ5)))))) = some res := hf
  refine k_bind hf (fun n1 hn1 hf => ?_)
  refine rl1.tr (r1_na hn1) ?_
  refine k_bind hf (fun σ2 hσ2 hf => ?_)
  refine rl0.tr1 (r0_p hσ2) ?_
  refine k_bind hf (fun n3 hn3 hf => ?_)
  refine rl1.tr (r1_na hn3) ?_
  refine k_bind hf (fun σ4 hσ4 hf => ?_)
  refine rl0.tr1 (r0_p hσ4) ?_
  refine k_bind hf (fun σ5 hσ5 hf => ?_)
  refine rl0.tr1 (r0_p hσ5) ?_
  obtain rfl := Option.some.inj hf
  exact rl1.rf _
set_option maxHeartbeats 4000000 in
set_option maxRecDepth 100000 in
theorem met_X1_init {l : Launch} {E : xG} {a : Nat} {σ : xS} {res : xS} (hf : fX1_init a σ = some res) : xMet l yX1_init cX1_init 1 (Option.none : Option Jvm.ClassFile.FieldType) 1 24 E [.ref a] σ none res := by
  replace hf : ((xna σ 6 (12 : Int32)).bind (fun n1 => (xp n1.2 [(1, 0)] a (.ref n1.1)).bind (fun σ2 => (xna σ2 1 (12 : Int32)).bind (fun n3 => (xp n3.2 [(1, 1)] a (.ref n3.1)).bind (fun σ4 => (xp σ4 [(1, 3)] a (.int (1 : Int32))).bind (fun σ5 => some σ5)))))) = some res := hf
  refine x_start (by decide) (Nat.le_of_ble_eq_true rfl) ?_
  intro p e s m args below meth c S hnm hR hS ls hl
  obtain ⟨hx, hb, hml, hown, hts⟩ := S.1.1
  have hl : lv_has ls 1 [(0, .ref a)] := hl
  have hn : XN 0 0 (xnx σ) (xns σ) (xnx res) (xns res) σ := ⟨Nat.zero_add _, Nat.zero_add _, (r1_X1_init (a := a) (σ := σ) hf).1, (r1_X1_init (a := a) (σ := σ) hf).2⟩
  have hb9 : XB (xnx res) (xns res) res := ⟨Nat.le_refl _, Nat.le_refl _⟩
  refine lv_aload_n hx hb dX1_init_0 rfl (lv_at hl 0 rfl) ?_
  refine W.objInit hx hb hown (hts _ q182) (hts _ q175) (hts _ q176) rfl (by rw [hml]; exact hl.1) rfl dX1_init_1 (Nat.le_of_ble_eq_true rfl) (Nat.le_of_ble_eq_true rfl) ?_
  refine lv_aload_n hx hb dX1_init_4 rfl (lv_at hl 0 rfl) ?_
  refine lv_bipush (v := 12) hx hb dX1_init_5 (by decide) ?_
  refine k_bind hf (fun n1 hn1 hf => ?_)
  have hbn1 : XB (xnx res) (xns res) n1.2 := hb9.back (by
    refine k_bind hf (fun σ2 hσ2 hf => ?_)
    refine rl0.tr1 (r0_p hσ2) ?_
    refine k_bind hf (fun n3 hn3 hf => ?_)
    refine rl1.tr (r1_na hn3) ?_
    refine k_bind hf (fun σ4 hσ4 hf => ?_)
    refine rl0.tr1 (r0_p hσ4) ?_
    refine k_bind hf (fun σ5 hσ5 hf => ?_)
    refine rl0.tr1 (r0_p hσ5) ?_
    obtain rfl := Option.some.inj hf
    exact rl1.rf _)
  refine x_newr (t := 6) S hR hS hn hn1 hbn1 rfl (by decide) (by decide) q183 (S.2.2.1.over q184 rfl) dX1_init_7 (fun H cells slots hR hS hn => ?_)
  refine k_bind hf (fun σ2 hσ2 hf => ?_)
  refine x_putF S hnm hR hS pt_X1_11 rfl rfl hσ2 dX1_init_10 (fun H locs hR hS => ?_)
  replace hn := hn.to (r0_p hσ2)
  refine lv_aload_n hx hb dX1_init_13 rfl (lv_at hl 0 rfl) ?_
  refine lv_bipush (v := 12) hx hb dX1_init_14 (by decide) ?_
  refine k_bind hf (fun n3 hn3 hf => ?_)
  have hbn3 : XB (xnx res) (xns res) n3.2 := hb9.back (by
    refine k_bind hf (fun σ4 hσ4 hf => ?_)
    refine rl0.tr1 (r0_p hσ4) ?_
    refine k_bind hf (fun σ5 hσ5 hf => ?_)
    refine rl0.tr1 (r0_p hσ5) ?_
    obtain rfl := Option.some.inj hf
    exact rl1.rf _)
  refine x_newa (t := 1) (atype := .int) S hR hS hn hn3 hbn3 rfl (by decide) (by decide) q204 dX1_init_16 (fun H cells slots hR hS hn => ?_)
  refine k_bind hf (fun σ4 hσ4 hf => ?_)
  refine x_putF S hnm hR hS pt_X1_17 rfl rfl hσ4 dX1_init_18 (fun H locs hR hS => ?_)
  replace hn := hn.to (r0_p hσ4)
  refine lv_aload_n hx hb dX1_init_21 rfl (lv_at hl 0 rfl) ?_
  refine lv_iconst (v := 1) hx hb dX1_init_22 (by decide) ?_
  refine k_bind hf (fun σ5 hσ5 hf => ?_)
  refine x_put S hR hS pt_X1_21 rfl rfl hσ5 dX1_init_23 (fun H locs hR hS => ?_)
  replace hn := hn.to (r0_p hσ5)
  obtain rfl := Option.some.inj hf
  exact x_vret S hR hS hn dX1_init_26

theorem lk_X0_10 : ∀ q ∈ ([(0, 0)] : List (Nat × Nat)), wLk RX0 10 q.1 q.2 := List.forall_mem_cons.mpr ⟨⟨RX0, TX0, 32, "LinesTouched", rfl, by decide, in_X0, q378, Or.inl rfl⟩, fun _ h => absurd h List.not_mem_nil⟩
theorem pt_X0_10 : ∀ q ∈ ([(0, 0)] : List (Nat × Nat)), wLk RX0 10 q.1 q.2 ∧ wPt q.1 q.2 (.object "LinesTouched$Net") true RX0 := List.forall_mem_cons.mpr ⟨⟨⟨RX0, TX0, 32, "LinesTouched", rfl, by decide, in_X0, q378, Or.inl rfl⟩, ⟨RX0, TX0, 32, tyX0, rfl, by decide, rfl, by decide +kernel, nmX0, tyX0_ok, fun _ => rfl⟩⟩, fun _ h => absurd h List.not_mem_nil⟩
theorem lk_X0_16 : ∀ q ∈ ([(0, 1)] : List (Nat × Nat)), wLk RX0 16 q.1 q.2 := List.forall_mem_cons.mpr ⟨⟨RX0, TX0, 32, "LinesTouched", rfl, by decide, in_X0, q379, Or.inl rfl⟩, fun _ h => absurd h List.not_mem_nil⟩
theorem pt_X0_16 : ∀ q ∈ ([(0, 1)] : List (Nat × Nat)), wLk RX0 16 q.1 q.2 ∧ wPt q.1 q.2 (.object "LinesTouched$Net") true RX0 := List.forall_mem_cons.mpr ⟨⟨⟨RX0, TX0, 32, "LinesTouched", rfl, by decide, in_X0, q379, Or.inl rfl⟩, ⟨RX0, TX0, 32, tyX0, rfl, by decide, rfl, by decide +kernel, nmX0, tyX0_ok, fun _ => rfl⟩⟩, fun _ h => absurd h List.not_mem_nil⟩
theorem lk_X0_19 : ∀ q ∈ ([(0, 2)] : List (Nat × Nat)), wLk RX0 19 q.1 q.2 := List.forall_mem_cons.mpr ⟨⟨RX0, TX0, 32, "LinesTouched", rfl, by decide, in_X0, q380, Or.inl rfl⟩, fun _ h => absurd h List.not_mem_nil⟩
theorem pt_X0_19 : ∀ q ∈ ([(0, 2)] : List (Nat × Nat)), wLk RX0 19 q.1 q.2 ∧ wPt q.1 q.2 (.object "LinesTouched$Net") true RX0 := List.forall_mem_cons.mpr ⟨⟨⟨RX0, TX0, 32, "LinesTouched", rfl, by decide, in_X0, q380, Or.inl rfl⟩, ⟨RX0, TX0, 32, tyX0, rfl, by decide, rfl, by decide +kernel, nmX0, tyX0_ok, fun _ => rfl⟩⟩, fun _ h => absurd h List.not_mem_nil⟩
theorem lk_X0_22 : ∀ q ∈ ([(0, 7)] : List (Nat × Nat)), wLk RX0 22 q.1 q.2 := List.forall_mem_cons.mpr ⟨⟨RX0, TX0, 32, "LinesTouched", rfl, by decide, in_X0, q385, Or.inl rfl⟩, fun _ h => absurd h List.not_mem_nil⟩
theorem pt_X0_22 : ∀ q ∈ ([(0, 7)] : List (Nat × Nat)), wLk RX0 22 q.1 q.2 ∧ wPt q.1 q.2 (.array .int) true RX0 := List.forall_mem_cons.mpr ⟨⟨⟨RX0, TX0, 32, "LinesTouched", rfl, by decide, in_X0, q385, Or.inl rfl⟩, ⟨RX0, TX0, 32, tyX0, rfl, by decide, rfl, by decide +kernel, nmX0, tyX0_ok, fun _ => rfl⟩⟩, fun _ h => absurd h List.not_mem_nil⟩
theorem lk_X0_26 : ∀ q ∈ ([(0, 9)] : List (Nat × Nat)), wLk RX0 26 q.1 q.2 := List.forall_mem_cons.mpr ⟨⟨RX0, TX0, 32, "LinesTouched", rfl, by decide, in_X0, q387, Or.inl rfl⟩, fun _ h => absurd h List.not_mem_nil⟩
theorem pt_X0_26 : ∀ q ∈ ([(0, 9)] : List (Nat × Nat)), wLk RX0 26 q.1 q.2 ∧ wPt q.1 q.2 (.array .byte) true RX0 := List.forall_mem_cons.mpr ⟨⟨⟨RX0, TX0, 32, "LinesTouched", rfl, by decide, in_X0, q387, Or.inl rfl⟩, ⟨RX0, TX0, 32, tyX0, rfl, by decide, rfl, by decide +kernel, nmX0, tyX0_ok, fun _ => rfl⟩⟩, fun _ h => absurd h List.not_mem_nil⟩
noncomputable def fX0_init (a : Nat) (σ : xS) : Option (xS) :=
  (xnw σ (.inr (1, [.null, .null, .int 0, .int 0])) 4).bind (fun n1 => (fX1_init n1.1 n1.2).bind (fun e2 => (xp e2 [(0, 0)] a (.ref n1.1)).bind (fun σ3 => (xnw σ3 (.inr (1, [.null, .null, .int 0, .int 0])) 4).bind (fun n4 => (fX1_init n4.1 n4.2).bind (fun e5 => (xp e5 [(0, 1)] a (.ref n4.1)).bind (fun σ6 => (xnw σ6 (.inr (1, [.null, .null, .int 0, .int 0])) 4).bind (fun n7 => (fX1_init n7.1 n7.2).bind (fun e8 => (xp e8 [(0, 2)] a (.ref n7.1)).bind (fun σ9 => (xna σ9 1 (12 : Int32)).bind (fun n10 => (xp n10.2 [(0, 7)] a (.ref n10.1)).bind (fun σ11 => (xna σ11 2 (12 : Int32)).bind (fun n12 => (xp n12.2 [(0, 9)] a (.ref n12.1)).bind (fun σ13 => (xna σ13 9 (4 : Int32)).bind (fun n14 => none))))))))))))))
theorem wi_X0_init : wInfI yX0_init cX0_init 1 0 := ⟨q172, q106, q173, rfl, (by decide +kernel), (by decide +kernel), (by decide +kernel)⟩
set_option maxHeartbeats 4000000 in
set_option maxRecDepth 100000 in
theorem r1_X0_init {a : Nat} {σ : xS} {res : xS} (hf : fX0_init a σ = some res) : rl1 σ res := by
  replace hf : ((xnw σ (.inr (1, [.null, .null, .int 0, .int 0])) 4).bind (fun n1 => (fX1_init n1.1 n1.2).bind (fun e2 => (xp e2 [(0, 0)] a (.ref n1.1)).bind (fun σ3 => (xnw σ3 (.inr (1, [.null, .null, .int 0, .int 0])) 4).bind (fun n4 => (fX1_init n4.1 n4.2).bind (fun e5 => (xp e5 [(0, 1)] a (.ref n4.1)).bind (fun σ6 => (xnw σ6 (.inr (1, [.null, .null, .int 0, .int 0])) 4).bind (fun n7 => (fX1_init n7.1 n7.2).bind (fun e8 => (xp e8 [(0, 2)] a (.ref n7.1)).bind (fun σ9 => (xna σ9 1 (12 : Int32)).bind (fun n10 => (xp n10.2 [(0, 7)] a (.ref n10.1)).bind (fun σ11 => (xna σ11 2 (12 : Int32)).bind (fun n12 => (xp n12.2 [(0, 9)] a (.ref n12.1)).bind (fun σ13 => (xna σ13 9 (4 : Int32)).bind (fun n14 => none))))))))))))))) = some res := hf
  refine k_bind hf (fun n1 hn1 hf => ?_)
  refine rl1.tr (r1_nw hn1) ?_
  refine k_bind hf (fun e2 he2 hf => ?_)
  refine rl1.tr (r1_X1_init he2) ?_
  refine k_bind hf (fun σ3 hσ3 hf => ?_)
  refine rl0.tr1 (r0_p hσ3) ?_
  refine k_bind hf (fun n4 hn4 hf => ?_)
  refine rl1.tr (r1_nw hn4) ?_
  refine k_bind hf (fun e5 he5 hf => ?_)
  refine rl1.tr (r1_X1_init he5) ?_
  refine k_bind hf (fun σ6 hσ6 hf => ?_)
  refine rl0.tr1 (r0_p hσ6) ?_
  refine k_bind hf (fun n7 hn7 hf => ?_)
  refine rl1.tr (r1_nw hn7) ?_
  refine k_bind hf (fun e8 he8 hf => ?_)
  refine rl1.tr (r1_X1_init he8) ?_
  refine k_bind hf (fun σ9 hσ9 hf => ?_)
  refine rl0.tr1 (r0_p hσ9) ?_
  refine k_bind hf (fun n10 hn10 hf => ?_)
  refine rl1.tr (r1_na hn10) ?_
  refine k_bind hf (fun σ11 hσ11 hf => ?_)
  refine rl0.tr1 (r0_p hσ11) ?_
  refine k_bind hf (fun n12 hn12 hf => ?_)
  refine rl1.tr (r1_na hn12) ?_
  refine k_bind hf (fun σ13 hσ13 hf => ?_)
  refine rl0.tr1 (r0_p hσ13) ?_
  refine k_bind hf (fun n14 hn14 hf => ?_)
  refine rl1.tr (r1_na hn14) ?_
  cases hf
set_option maxHeartbeats 4000000 in
set_option maxRecDepth 100000 in
theorem met_X0_init {l : Launch} {E : xG} {a : Nat} {σ : xS} {res : xS} (hf : fX0_init a σ = some res) : xMet l yX0_init cX0_init 1 (Option.none : Option Jvm.ClassFile.FieldType) 2 44 E [.ref a] σ none res := by
  replace hf : ((xnw σ (.inr (1, [.null, .null, .int 0, .int 0])) 4).bind (fun n1 => (fX1_init n1.1 n1.2).bind (fun e2 => (xp e2 [(0, 0)] a (.ref n1.1)).bind (fun σ3 => (xnw σ3 (.inr (1, [.null, .null, .int 0, .int 0])) 4).bind (fun n4 => (fX1_init n4.1 n4.2).bind (fun e5 => (xp e5 [(0, 1)] a (.ref n4.1)).bind (fun σ6 => (xnw σ6 (.inr (1, [.null, .null, .int 0, .int 0])) 4).bind (fun n7 => (fX1_init n7.1 n7.2).bind (fun e8 => (xp e8 [(0, 2)] a (.ref n7.1)).bind (fun σ9 => (xna σ9 1 (12 : Int32)).bind (fun n10 => (xp n10.2 [(0, 7)] a (.ref n10.1)).bind (fun σ11 => (xna σ11 2 (12 : Int32)).bind (fun n12 => (xp n12.2 [(0, 9)] a (.ref n12.1)).bind (fun σ13 => (xna σ13 9 (4 : Int32)).bind (fun n14 => none))))))))))))))) = some res := hf
  refine x_start (by decide) (Nat.le_of_ble_eq_true rfl) ?_
  intro p e s m args below meth c S hnm hR hS ls hl
  obtain ⟨hx, hb, hml, hown, hts⟩ := S.1.1
  have hl : lv_has ls 1 [(0, .ref a)] := hl
  have hn : XN 0 0 (xnx σ) (xns σ) (xnx res) (xns res) σ := ⟨Nat.zero_add _, Nat.zero_add _, (r1_X0_init (a := a) (σ := σ) hf).1, (r1_X0_init (a := a) (σ := σ) hf).2⟩
  have hb9 : XB (xnx res) (xns res) res := ⟨Nat.le_refl _, Nat.le_refl _⟩
  refine lv_aload_n hx hb dX0_init_0 rfl (lv_at hl 0 rfl) ?_
  refine W.objInit hx hb hown (hts _ q174) (hts _ q175) (hts _ q176) rfl (by rw [hml]; exact hl.1) rfl dX0_init_1 (Nat.le_of_ble_eq_true rfl) (Nat.le_of_ble_eq_true rfl) ?_
  refine lv_aload_n hx hb dX0_init_4 rfl (lv_at hl 0 rfl) ?_
  refine k_bind hf (fun n1 hn1 hf => ?_)
  have hbn1 : XB (xnx res) (xns res) n1.2 := hb9.back (by
    refine k_bind hf (fun e2 he2 hf => ?_)
    refine rl1.tr (r1_X1_init he2) ?_
    refine k_bind hf (fun σ3 hσ3 hf => ?_)
    refine rl0.tr1 (r0_p hσ3) ?_
    refine k_bind hf (fun n4 hn4 hf => ?_)
    refine rl1.tr (r1_nw hn4) ?_
    refine k_bind hf (fun e5 he5 hf => ?_)
    refine rl1.tr (r1_X1_init he5) ?_
    refine k_bind hf (fun σ6 hσ6 hf => ?_)
    refine rl0.tr1 (r0_p hσ6) ?_
    refine k_bind hf (fun n7 hn7 hf => ?_)
    refine rl1.tr (r1_nw hn7) ?_
    refine k_bind hf (fun e8 he8 hf => ?_)
    refine rl1.tr (r1_X1_init he8) ?_
    refine k_bind hf (fun σ9 hσ9 hf => ?_)
    refine rl0.tr1 (r0_p hσ9) ?_
    refine k_bind hf (fun n10 hn10 hf => ?_)
    refine rl1.tr (r1_na hn10) ?_
    refine k_bind hf (fun σ11 hσ11 hf => ?_)
    refine rl0.tr1 (r0_p hσ11) ?_
    refine k_bind hf (fun n12 hn12 hf => ?_)
    refine rl1.tr (r1_na hn12) ?_
    refine k_bind hf (fun σ13 hσ13 hf => ?_)
    refine rl0.tr1 (r0_p hσ13) ?_
    refine k_bind hf (fun n14 hn14 hf => ?_)
    refine rl1.tr (r1_na hn14) ?_
    cases hf)
  refine x_newQ (T := TX1) (ty := tyX1) S hR hS hn hn1 hbn1 rfl in_X1 tyX1_ok (by decide +kernel) q177 q178 q107 dX0_init_5 (fun H cells slots hR hS hn => ?_)
  refine lv_dup hx hb dX0_init_8 rfl ?_
  refine k_bind hf (fun e2 he2 hf => ?_)
  have hb_9 : XB (xnx res) (xns res) e2 := hb9.back (by
    refine k_bind hf (fun σ3 hσ3 hf => ?_)
    refine rl0.tr1 (r0_p hσ3) ?_
    refine k_bind hf (fun n4 hn4 hf => ?_)
    refine rl1.tr (r1_nw hn4) ?_
    refine k_bind hf (fun e5 he5 hf => ?_)
    refine rl1.tr (r1_X1_init he5) ?_
    refine k_bind hf (fun σ6 hσ6 hf => ?_)
    refine rl0.tr1 (r0_p hσ6) ?_
    refine k_bind hf (fun n7 hn7 hf => ?_)
    refine rl1.tr (r1_nw hn7) ?_
    refine k_bind hf (fun e8 he8 hf => ?_)
    refine rl1.tr (r1_X1_init he8) ?_
    refine k_bind hf (fun σ9 hσ9 hf => ?_)
    refine rl0.tr1 (r0_p hσ9) ?_
    refine k_bind hf (fun n10 hn10 hf => ?_)
    refine rl1.tr (r1_na hn10) ?_
    refine k_bind hf (fun σ11 hσ11 hf => ?_)
    refine rl0.tr1 (r0_p hσ11) ?_
    refine k_bind hf (fun n12 hn12 hf => ?_)
    refine rl1.tr (r1_na hn12) ?_
    refine k_bind hf (fun σ13 hσ13 hf => ?_)
    refine rl0.tr1 (r0_p hσ13) ?_
    refine k_bind hf (fun n14 hn14 hf => ?_)
    refine rl1.tr (r1_na hn14) ?_
    cases hf)
  refine x_callIN (As := []) (rest := [.ref n1.1, .ref a]) S hR hS hn (met_X1_init he2) (r1_X1_init he2) hb_9 wi_X1_init q179 ⟨Nat.le_of_ble_eq_true rfl, Nat.le_of_ble_eq_true rfl⟩ rfl hl.1 rfl (Nat.le_of_ble_eq_true rfl) dX0_init_9 (fun H locs cells slots hR hS hn => ?_)
  refine k_bind hf (fun σ3 hσ3 hf => ?_)
  refine x_putF S hnm hR hS pt_X0_10 rfl rfl hσ3 dX0_init_12 (fun H locs hR hS => ?_)
  replace hn := hn.to (r0_p hσ3)
  refine lv_aload_n hx hb dX0_init_15 rfl (lv_at hl 0 rfl) ?_
  refine k_bind hf (fun n4 hn4 hf => ?_)
  have hbn4 : XB (xnx res) (xns res) n4.2 := hb9.back (by
    refine k_bind hf (fun e5 he5 hf => ?_)
    refine rl1.tr (r1_X1_init he5) ?_
    refine k_bind hf (fun σ6 hσ6 hf => ?_)
    refine rl0.tr1 (r0_p hσ6) ?_
    refine k_bind hf (fun n7 hn7 hf => ?_)
    refine rl1.tr (r1_nw hn7) ?_
    refine k_bind hf (fun e8 he8 hf => ?_)
    refine rl1.tr (r1_X1_init he8) ?_
    refine k_bind hf (fun σ9 hσ9 hf => ?_)
    refine rl0.tr1 (r0_p hσ9) ?_
    refine k_bind hf (fun n10 hn10 hf => ?_)
    refine rl1.tr (r1_na hn10) ?_
    refine k_bind hf (fun σ11 hσ11 hf => ?_)
    refine rl0.tr1 (r0_p hσ11) ?_
    refine k_bind hf (fun n12 hn12 hf => ?_)
    refine rl1.tr (r1_na hn12) ?_
    refine k_bind hf (fun σ13 hσ13 hf => ?_)
    refine rl0.tr1 (r0_p hσ13) ?_
    refine k_bind hf (fun n14 hn14 hf => ?_)
    refine rl1.tr (r1_na hn14) ?_
    cases hf)
  refine x_newQ (T := TX1) (ty := tyX1) S hR hS hn hn4 hbn4 rfl in_X1 tyX1_ok (by decide +kernel) q177 q178 q107 dX0_init_16 (fun H cells slots hR hS hn => ?_)
  refine lv_dup hx hb dX0_init_19 rfl ?_
  refine k_bind hf (fun e5 he5 hf => ?_)
  have hb_20 : XB (xnx res) (xns res) e5 := hb9.back (by
    refine k_bind hf (fun σ6 hσ6 hf => ?_)
    refine rl0.tr1 (r0_p hσ6) ?_
    refine k_bind hf (fun n7 hn7 hf => ?_)
    refine rl1.tr (r1_nw hn7) ?_
    refine k_bind hf (fun e8 he8 hf => ?_)
    refine rl1.tr (r1_X1_init he8) ?_
    refine k_bind hf (fun σ9 hσ9 hf => ?_)
    refine rl0.tr1 (r0_p hσ9) ?_
    refine k_bind hf (fun n10 hn10 hf => ?_)
    refine rl1.tr (r1_na hn10) ?_
    refine k_bind hf (fun σ11 hσ11 hf => ?_)
    refine rl0.tr1 (r0_p hσ11) ?_
    refine k_bind hf (fun n12 hn12 hf => ?_)
    refine rl1.tr (r1_na hn12) ?_
    refine k_bind hf (fun σ13 hσ13 hf => ?_)
    refine rl0.tr1 (r0_p hσ13) ?_
    refine k_bind hf (fun n14 hn14 hf => ?_)
    refine rl1.tr (r1_na hn14) ?_
    cases hf)
  refine x_callIN (As := []) (rest := [.ref n4.1, .ref a]) S hR hS hn (met_X1_init he5) (r1_X1_init he5) hb_20 wi_X1_init q179 ⟨Nat.le_of_ble_eq_true rfl, Nat.le_of_ble_eq_true rfl⟩ rfl hl.1 rfl (Nat.le_of_ble_eq_true rfl) dX0_init_20 (fun H locs cells slots hR hS hn => ?_)
  refine k_bind hf (fun σ6 hσ6 hf => ?_)
  refine x_putF S hnm hR hS pt_X0_16 rfl rfl hσ6 dX0_init_23 (fun H locs hR hS => ?_)
  replace hn := hn.to (r0_p hσ6)
  refine lv_aload_n hx hb dX0_init_26 rfl (lv_at hl 0 rfl) ?_
  refine k_bind hf (fun n7 hn7 hf => ?_)
  have hbn7 : XB (xnx res) (xns res) n7.2 := hb9.back (by
    refine k_bind hf (fun e8 he8 hf => ?_)
    refine rl1.tr (r1_X1_init he8) ?_
    refine k_bind hf (fun σ9 hσ9 hf => ?_)
    refine rl0.tr1 (r0_p hσ9) ?_
    refine k_bind hf (fun n10 hn10 hf => ?_)
    refine rl1.tr (r1_na hn10) ?_
    refine k_bind hf (fun σ11 hσ11 hf => ?_)
    refine rl0.tr1 (r0_p hσ11) ?_
    refine k_bind hf (fun n12 hn12 hf => ?_)
    refine rl1.tr (r1_na hn12) ?_
    refine k_bind hf (fun σ13 hσ13 hf => ?_)
    refine rl0.tr1 (r0_p hσ13) ?_
    refine k_bind hf (fun n14 hn14 hf => ?_)
    refine rl1.tr (r1_na hn14) ?_
    cases hf)
  refine x_newQ (T := TX1) (ty := tyX1) S hR hS hn hn7 hbn7 rfl in_X1 tyX1_ok (by decide +kernel) q177 q178 q107 dX0_init_27 (fun H cells slots hR hS hn => ?_)
  refine lv_dup hx hb dX0_init_30 rfl ?_
  refine k_bind hf (fun e8 he8 hf => ?_)
  have hb_31 : XB (xnx res) (xns res) e8 := hb9.back (by
    refine k_bind hf (fun σ9 hσ9 hf => ?_)
    refine rl0.tr1 (r0_p hσ9) ?_
    refine k_bind hf (fun n10 hn10 hf => ?_)
    refine rl1.tr (r1_na hn10) ?_
    refine k_bind hf (fun σ11 hσ11 hf => ?_)
    refine rl0.tr1 (r0_p hσ11) ?_
    refine k_bind hf (fun n12 hn12 hf => ?_)
    refine rl1.tr (r1_na hn12) ?_
    refine k_bind hf (fun σ13 hσ13 hf => ?_)
    refine rl0.tr1 (r0_p hσ13) ?_
    refine k_bind hf (fun n14 hn14 hf => ?_)
    refine rl1.tr (r1_na hn14) ?_
    cases hf)
  refine x_callIN (As := []) (rest := [.ref n7.1, .ref a]) S hR hS hn (met_X1_init he8) (r1_X1_init he8) hb_31 wi_X1_init q179 ⟨Nat.le_of_ble_eq_true rfl, Nat.le_of_ble_eq_true rfl⟩ rfl hl.1 rfl (Nat.le_of_ble_eq_true rfl) dX0_init_31 (fun H locs cells slots hR hS hn => ?_)
  refine k_bind hf (fun σ9 hσ9 hf => ?_)
  refine x_putF S hnm hR hS pt_X0_19 rfl rfl hσ9 dX0_init_34 (fun H locs hR hS => ?_)
  replace hn := hn.to (r0_p hσ9)
  refine lv_aload_n hx hb dX0_init_37 rfl (lv_at hl 0 rfl) ?_
  refine lv_bipush (v := 12) hx hb dX0_init_38 (by decide) ?_
  refine k_bind hf (fun n10 hn10 hf => ?_)
  have hbn10 : XB (xnx res) (xns res) n10.2 := hb9.back (by
    refine k_bind hf (fun σ11 hσ11 hf => ?_)
    refine rl0.tr1 (r0_p hσ11) ?_
    refine k_bind hf (fun n12 hn12 hf => ?_)
    refine rl1.tr (r1_na hn12) ?_
    refine k_bind hf (fun σ13 hσ13 hf => ?_)
    refine rl0.tr1 (r0_p hσ13) ?_
    refine k_bind hf (fun n14 hn14 hf => ?_)
    refine rl1.tr (r1_na hn14) ?_
    cases hf)
  refine x_newa (t := 1) (atype := .int) S hR hS hn hn10 hbn10 rfl (by decide) (by decide) q204 dX0_init_40 (fun H cells slots hR hS hn => ?_)
  refine k_bind hf (fun σ11 hσ11 hf => ?_)
  refine x_putF S hnm hR hS pt_X0_22 rfl rfl hσ11 dX0_init_42 (fun H locs hR hS => ?_)
  replace hn := hn.to (r0_p hσ11)
  refine lv_aload_n hx hb dX0_init_45 rfl (lv_at hl 0 rfl) ?_
  refine lv_bipush (v := 12) hx hb dX0_init_46 (by decide) ?_
  refine k_bind hf (fun n12 hn12 hf => ?_)
  have hbn12 : XB (xnx res) (xns res) n12.2 := hb9.back (by
    refine k_bind hf (fun σ13 hσ13 hf => ?_)
    refine rl0.tr1 (r0_p hσ13) ?_
    refine k_bind hf (fun n14 hn14 hf => ?_)
    refine rl1.tr (r1_na hn14) ?_
    cases hf)
  refine x_newa (t := 2) (atype := .byte) S hR hS hn hn12 hbn12 rfl (by decide) (by decide) q245 dX0_init_48 (fun H cells slots hR hS hn => ?_)
  refine k_bind hf (fun σ13 hσ13 hf => ?_)
  refine x_putF S hnm hR hS pt_X0_26 rfl rfl hσ13 dX0_init_50 (fun H locs hR hS => ?_)
  replace hn := hn.to (r0_p hσ13)
  refine lv_aload_n hx hb dX0_init_53 rfl (lv_at hl 0 rfl) ?_
  refine lv_iconst (v := 4) hx hb dX0_init_54 (by decide) ?_
  refine k_bind hf (fun n14 hn14 hf => ?_)
  have hbn14 : XB (xnx res) (xns res) n14.2 := hb9.back (by
    cases hf)
  refine x_newr (t := 9) S hR hS hn hn14 hbn14 rfl (by decide) (by decide) q205 (S.2.2.1.over q206 rfl) dX0_init_55 (fun H cells slots hR hS hn => ?_)
  refine lv_dup hx hb dX0_init_58 rfl ?_
  refine lv_iconst (v := 0) hx hb dX0_init_59 (by decide) ?_
  refine lv_aload_n hx hb dX0_init_60 rfl (lv_at hl 0 rfl) ?_
  cases hf


noncomputable def fX0_has (x0 : Int32) (x1 : Int32) : Int32 :=
  if ((isr x0 x1) &&& (1 : Int32)) = (1 : Int32) then (1 : Int32) else (0 : Int32)
theorem wi_X0_has : wInfS yX0_has cX0_has 2 (Option.some Jvm.ClassFile.FieldType.boolean) 2 := ⟨q211, q106, q212, (by decide +kernel), (by decide +kernel), (by decide +kernel)⟩
set_option maxHeartbeats 4000000 in
set_option maxRecDepth 100000 in
theorem met_X0_has {l : Launch} {x0 : Int32} {x1 : Int32} {res : Int32} (hf : fX0_has x0 x1 = res) : sMet l yX0_has cX0_has 2 (Option.some Jvm.ClassFile.FieldType.boolean) (mRm 0 0) [.int x0, .int x1] (some (.int res)) := by
  replace hf : (if ((isr x0 x1) &&& (1 : Int32)) = (1 : Int32) then (1 : Int32) else (0 : Int32)) = res := hf
  refine s_start (by decide) (Nat.le_of_ble_eq_true rfl) ?_
  intro p e s m args below meth c S ls hl
  obtain ⟨hx, hb, hml, hown, hts⟩ := S.1
  have hl : lv_has ls 2 [(0, .int x0), (1, .int x1)] := hl
  refine lv_iload_n hx hb dX0_has_0 rfl (lv_at hl 0 rfl) ?_
  refine lv_iload_n hx hb dX0_has_1 rfl (lv_at hl 1 rfl) ?_
  refine lv_ishr hx hb dX0_has_2 ?_
  refine lv_iconst (v := 1) hx hb dX0_has_3 (by decide) ?_
  refine lv_iand hx hb dX0_has_4 ?_
  refine lv_iconst (v := 1) hx hb dX0_has_5 (by decide) ?_
  refine lv_icmp_ne (tgt := 13) hx hb dX0_has_6 (by decide) (fun c_6 => ?_) (fun c_6 => ?_)
  · replace hf := o_f hf c_6
    refine lv_iconst (v := 0) hx hb dX0_has_13 (by decide) ?_
    subst hf
    exact s_iret S rfl dX0_has_14
  · replace hf := o_t hf c_6
    refine lv_iconst (v := 1) hx hb dX0_has_9 (by decide) ?_
    refine lv_goto (tgt := 14) hx hb dX0_has_10 (by decide) ?_
    subst hf
    exact s_iret S rfl dX0_has_14


noncomputable def fJ1_bitCount (x0 : Int32) : Option (Int32) :=
  (some (x0 - ((iur x0 (1 : Int32)) &&& (1431655765 : Int32)))).bind (fun v1 => (some ((v1 &&& (858993459 : Int32)) + ((iur v1 (2 : Int32)) &&& (858993459 : Int32)))).bind (fun v2 => (some ((v2 + (iur v2 (4 : Int32))) &&& (252645135 : Int32))).bind (fun v3 => (some (v3 + (iur v3 (8 : Int32)))).bind (fun v4 => (some (v4 + (iur v4 (16 : Int32)))).bind (fun v5 => some (v5 &&& (63 : Int32)))))))
theorem wi_J1_bitCount : wInfS yJ1_bitCount cJ1_bitCount 1 (Option.some Jvm.ClassFile.FieldType.int) 1 := ⟨q221, q109, q222, (by decide +kernel), (by decide +kernel), (by decide +kernel)⟩
set_option maxHeartbeats 4000000 in
set_option maxRecDepth 100000 in
theorem met_J1_bitCount {l : Launch} {x0 : Int32} {res : Int32} (hf : fJ1_bitCount x0 = some res) : sMet l yJ1_bitCount cJ1_bitCount 1 (Option.some Jvm.ClassFile.FieldType.int) (mRm 0 0) [.int x0] (some (.int res)) := by
  replace hf : ((some (x0 - ((iur x0 (1 : Int32)) &&& (1431655765 : Int32)))).bind (fun v1 => (some ((v1 &&& (858993459 : Int32)) + ((iur v1 (2 : Int32)) &&& (858993459 : Int32)))).bind (fun v2 => (some ((v2 + (iur v2 (4 : Int32))) &&& (252645135 : Int32))).bind (fun v3 => (some (v3 + (iur v3 (8 : Int32)))).bind (fun v4 => (some (v4 + (iur v4 (16 : Int32)))).bind (fun v5 => some (v5 &&& (63 : Int32)))))))) = some res := hf
  refine s_start (by decide) (Nat.le_of_ble_eq_true rfl) ?_
  intro p e s m args below meth c S ls hl
  obtain ⟨hx, hb, hml, hown, hts⟩ := S.1
  have hl : lv_has ls 1 [(0, .int x0)] := hl
  refine lv_iload_n hx hb dJ1_bitCount_0 rfl (lv_at hl 0 rfl) ?_
  refine lv_iload_n hx hb dJ1_bitCount_1 rfl (lv_at hl 0 rfl) ?_
  refine lv_iconst (v := 1) hx hb dJ1_bitCount_2 (by decide) ?_
  refine lv_iushr (v := (iur x0 (1 : Int32))) hx hb dJ1_bitCount_3 rfl ?_
  refine lv_ldcw hx hb hown (hts _ q223) dJ1_bitCount_4 ?_
  refine lv_iand hx hb dJ1_bitCount_7 ?_
  refine lv_isub hx hb dJ1_bitCount_8 ?_
  refine k_bind hf (fun v1 hv1 hf => ?_)
  refine m_nmi hv1 ?_
  refine lv_istore_n (lv' := [(0, .int v1)]) hx hb dJ1_bitCount_9 rfl hl (by decide) rfl (fun ls hl => ?_)
  refine lv_iload_n hx hb dJ1_bitCount_10 rfl (lv_at hl 0 rfl) ?_
  refine lv_ldcw hx hb hown (hts _ q224) dJ1_bitCount_11 ?_
  refine lv_iand hx hb dJ1_bitCount_14 ?_
  refine lv_iload_n hx hb dJ1_bitCount_15 rfl (lv_at hl 0 rfl) ?_
  refine lv_iconst (v := 2) hx hb dJ1_bitCount_16 (by decide) ?_
  refine lv_iushr (v := (iur v1 (2 : Int32))) hx hb dJ1_bitCount_17 rfl ?_
  refine lv_ldcw hx hb hown (hts _ q224) dJ1_bitCount_18 ?_
  refine lv_iand hx hb dJ1_bitCount_21 ?_
  refine lv_iadd hx hb dJ1_bitCount_22 ?_
  refine k_bind hf (fun v2 hv2 hf => ?_)
  refine m_nmi hv2 ?_
  refine lv_istore_n (lv' := [(0, .int v2)]) hx hb dJ1_bitCount_23 rfl hl (by decide) rfl (fun ls hl => ?_)
  refine lv_iload_n hx hb dJ1_bitCount_24 rfl (lv_at hl 0 rfl) ?_
  refine lv_iload_n hx hb dJ1_bitCount_25 rfl (lv_at hl 0 rfl) ?_
  refine lv_iconst (v := 4) hx hb dJ1_bitCount_26 (by decide) ?_
  refine lv_iushr (v := (iur v2 (4 : Int32))) hx hb dJ1_bitCount_27 rfl ?_
  refine lv_iadd hx hb dJ1_bitCount_28 ?_
  refine lv_ldcw hx hb hown (hts _ q225) dJ1_bitCount_29 ?_
  refine lv_iand hx hb dJ1_bitCount_32 ?_
  refine k_bind hf (fun v3 hv3 hf => ?_)
  refine m_nmi hv3 ?_
  refine lv_istore_n (lv' := [(0, .int v3)]) hx hb dJ1_bitCount_33 rfl hl (by decide) rfl (fun ls hl => ?_)
  refine lv_iload_n hx hb dJ1_bitCount_34 rfl (lv_at hl 0 rfl) ?_
  refine lv_iload_n hx hb dJ1_bitCount_35 rfl (lv_at hl 0 rfl) ?_
  refine lv_bipush (v := 8) hx hb dJ1_bitCount_36 (by decide) ?_
  refine lv_iushr (v := (iur v3 (8 : Int32))) hx hb dJ1_bitCount_38 rfl ?_
  refine lv_iadd hx hb dJ1_bitCount_39 ?_
  refine k_bind hf (fun v4 hv4 hf => ?_)
  refine m_nmi hv4 ?_
  refine lv_istore_n (lv' := [(0, .int v4)]) hx hb dJ1_bitCount_40 rfl hl (by decide) rfl (fun ls hl => ?_)
  refine lv_iload_n hx hb dJ1_bitCount_41 rfl (lv_at hl 0 rfl) ?_
  refine lv_iload_n hx hb dJ1_bitCount_42 rfl (lv_at hl 0 rfl) ?_
  refine lv_bipush (v := 16) hx hb dJ1_bitCount_43 (by decide) ?_
  refine lv_iushr (v := (iur v4 (16 : Int32))) hx hb dJ1_bitCount_45 rfl ?_
  refine lv_iadd hx hb dJ1_bitCount_46 ?_
  refine k_bind hf (fun v5 hv5 hf => ?_)
  refine m_nmi hv5 ?_
  refine lv_istore_n (lv' := [(0, .int v5)]) hx hb dJ1_bitCount_47 rfl hl (by decide) rfl (fun ls hl => ?_)
  refine lv_iload_n hx hb dJ1_bitCount_48 rfl (lv_at hl 0 rfl) ?_
  refine lv_bipush (v := 63) hx hb dJ1_bitCount_49 (by decide) ?_
  refine lv_iand hx hb dJ1_bitCount_51 ?_
  obtain rfl := Option.some.inj hf
  exact s_iret S rfl dJ1_bitCount_52


noncomputable def fX0_ones (x0 : Int32) : Option (Int32) :=
  (fJ1_bitCount x0).bind (fun v1 => some v1)
theorem wi_X0_ones : wInfS yX0_ones cX0_ones 1 (Option.some Jvm.ClassFile.FieldType.int) 1 := ⟨q218, q106, q219, (by decide +kernel), (by decide +kernel), (by decide +kernel)⟩
set_option maxHeartbeats 4000000 in
set_option maxRecDepth 100000 in
theorem met_X0_ones {l : Launch} {x0 : Int32} {res : Int32} (hf : fX0_ones x0 = some res) : sMet l yX0_ones cX0_ones 1 (Option.some Jvm.ClassFile.FieldType.int) (mRm 1 20) [.int x0] (some (.int res)) := by
  replace hf : ((fJ1_bitCount x0).bind (fun v1 => some v1)) = some res := hf
  refine s_start (by decide) (Nat.le_of_ble_eq_true rfl) ?_
  intro p e s m args below meth c S ls hl
  obtain ⟨hx, hb, hml, hown, hts⟩ := S.1
  have hl : lv_has ls 1 [(0, .int x0)] := hl
  refine lv_iload_n hx hb dX0_ones_0 rfl (lv_at hl 0 rfl) ?_
  refine k_bind hf (fun v1 hv1 hf => ?_)
  refine s_call (As := [.int x0]) (rest := []) S.1 (met_J1_bitCount hv1) wi_J1_bitCount q220 ⟨rfl, rfl⟩ ⟨Nat.le_of_ble_eq_true rfl, Nat.le_of_ble_eq_true rfl⟩ rfl hl.1 rfl (Nat.le_of_ble_eq_true rfl) dX0_ones_1 ⟨Nat.zero_le _, Nat.zero_le _⟩ ?_
  obtain rfl := Option.some.inj hf
  exact s_iret S rfl dX0_ones_4


noncomputable def fX1_lines (j : Fin 3) (x1 : Int32) (x2 : Int32) (σ : xS) : Option (Int32) :=
  (xla 1 σ (11 + 2 * j.val) x1).bind (fun v1 => (fX0_ones (v1 &&& x2)).bind (fun v2 => some v2))
theorem wi_X1_lines : wInfV yX1_lines cX1_lines 3 (Option.some Jvm.ClassFile.FieldType.int) 2 := ⟨q214, q215, q107, q216, (by decide +kernel), (by decide +kernel), (by decide +kernel)⟩
set_option maxHeartbeats 4000000 in
set_option maxRecDepth 100000 in
theorem met_X1_lines {l : Launch} {E : xG} {j : Fin 3} {x1 : Int32} {x2 : Int32} {σ : xS} {res : Int32} (hf : fX1_lines j x1 x2 σ = some res) : xMet l yX1_lines cX1_lines 3 (Option.some Jvm.ClassFile.FieldType.int) 2 40 E [.ref (xnt E j), .int x1, .int x2] σ (some (.int res)) σ := by
  replace hf : ((xla 1 σ (11 + 2 * j.val) x1).bind (fun v1 => (fX0_ones (v1 &&& x2)).bind (fun v2 => some v2))) = some res := hf
  refine x_start (by decide) (Nat.le_of_ble_eq_true rfl) ?_
  intro p e s m args below meth c S hnm hR hS ls hl
  obtain ⟨hx, hb, hml, hown, hts⟩ := S.1.1
  have hl : lv_has ls 3 [(0, .ref (xnt E j)), (1, .int x1), (2, .int x2)] := hl
  have hn : XN 0 0 (xnx σ) (xns σ) (xnx σ) (xns σ) σ := ⟨Nat.zero_add _, Nat.zero_add _, (rl1.rf σ).1, (rl1.rf σ).2⟩
  refine lv_aload_n hx hb dX1_lines_0 rfl (lv_at hl 0 rfl) ?_
  refine x_nget (j := j) (k := 1) (v := .ref (xar E (11 + 2 * j.val))) S hR (lk_X1_17 _ List.mem_cons_self) rfl dX1_lines_1 ?_
  refine lv_iload_n hx hb dX1_lines_4 rfl (lv_at hl 1 rfl) ?_
  refine k_bind hf (fun v1 hv1 hf => ?_)
  refine x_sl1 S hR hv1 dX1_lines_5 ?_
  refine lv_iload_n hx hb dX1_lines_6 rfl (lv_at hl 2 rfl) ?_
  refine lv_iand hx hb dX1_lines_7 ?_
  refine k_bind hf (fun v2 hv2 hf => ?_)
  refine s_callN (As := [.int (v1 &&& x2)]) (rest := []) S.1.1 S.2.2.1 (met_X0_ones hv2) wi_X0_ones q217 ⟨rfl, rfl⟩ ⟨Nat.le_of_ble_eq_true rfl, Nat.le_of_ble_eq_true rfl⟩ rfl hl.1 rfl (Nat.le_of_ble_eq_true rfl) dX1_lines_8 hn.cs ?_
  obtain rfl := Option.some.inj hf
  exact x_iret S hR hS hn rfl dX1_lines_11

theorem lk_X2_7 : ∀ q ∈ ([(2, 0)] : List (Nat × Nat)), wLk RX2 7 q.1 q.2 := List.forall_mem_cons.mpr ⟨⟨RX2, TX2, 3, "LinesTouched$Round", rfl, by decide, in_X2, q232, Or.inl rfl⟩, fun _ h => absurd h List.not_mem_nil⟩
theorem pt_X2_7 : ∀ q ∈ ([(2, 0)] : List (Nat × Nat)), wLk RX2 7 q.1 q.2 ∧ wPt q.1 q.2 .int true RX2 := List.forall_mem_cons.mpr ⟨⟨⟨RX2, TX2, 3, "LinesTouched$Round", rfl, by decide, in_X2, q232, Or.inl rfl⟩, ⟨RX2, TX2, 3, tyX2, rfl, by decide, rfl, by decide +kernel, nmX2, tyX2_ok, fun _ => rfl⟩⟩, fun _ h => absurd h List.not_mem_nil⟩
theorem lk_X2_13 : ∀ q ∈ ([(2, 1)] : List (Nat × Nat)), wLk RX2 13 q.1 q.2 := List.forall_mem_cons.mpr ⟨⟨RX2, TX2, 3, "LinesTouched$Round", rfl, by decide, in_X2, q234, Or.inl rfl⟩, fun _ h => absurd h List.not_mem_nil⟩
theorem pt_X2_13 : ∀ q ∈ ([(2, 1)] : List (Nat × Nat)), wLk RX2 13 q.1 q.2 ∧ wPt q.1 q.2 .int true RX2 := List.forall_mem_cons.mpr ⟨⟨⟨RX2, TX2, 3, "LinesTouched$Round", rfl, by decide, in_X2, q234, Or.inl rfl⟩, ⟨RX2, TX2, 3, tyX2, rfl, by decide, rfl, by decide +kernel, nmX2, tyX2_ok, fun _ => rfl⟩⟩, fun _ h => absurd h List.not_mem_nil⟩
theorem lk_X2_16 : ∀ q ∈ ([(2, 2)] : List (Nat × Nat)), wLk RX2 16 q.1 q.2 := List.forall_mem_cons.mpr ⟨⟨RX2, TX2, 3, "LinesTouched$Round", rfl, by decide, in_X2, q236, Or.inl rfl⟩, fun _ h => absurd h List.not_mem_nil⟩
theorem pt_X2_16 : ∀ q ∈ ([(2, 2)] : List (Nat × Nat)), wLk RX2 16 q.1 q.2 ∧ wPt q.1 q.2 .int true RX2 := List.forall_mem_cons.mpr ⟨⟨⟨RX2, TX2, 3, "LinesTouched$Round", rfl, by decide, in_X2, q236, Or.inl rfl⟩, ⟨RX2, TX2, 3, tyX2, rfl, by decide, rfl, by decide +kernel, nmX2, tyX2_ok, fun _ => rfl⟩⟩, fun _ h => absurd h List.not_mem_nil⟩
noncomputable def fX2_init (a : Nat) (x1 : Int32) (x2 : Int32) (x3 : Int32) (σ : xS) : Option (xS) :=
  (xp σ [(2, 0)] a (.int x1)).bind (fun σ1 => (xp σ1 [(2, 1)] a (.int x2)).bind (fun σ2 => (xp σ2 [(2, 2)] a (.int x3)).bind (fun σ3 => some σ3)))
theorem wi_X2_init : wInfI yX2_init cX2_init 4 3 := ⟨q229, q110, q230, rfl, (by decide +kernel), (by decide +kernel), (by decide +kernel)⟩
set_option maxHeartbeats 4000000 in
set_option maxRecDepth 100000 in
theorem r0_X2_init {a : Nat} {x1 : Int32} {x2 : Int32} {x3 : Int32} {σ : xS} {res : xS} (hf : fX2_init a x1 x2 x3 σ = some res) : rl0 σ res := by
  replace hf : ((xp σ [(2, 0)] a (.int x1)).bind (fun σ1 => (xp σ1 [(2, 1)] a (.int x2)).bind (fun σ2 => (xp σ2 [(2, 2)] a (.int x3)).bind (fun σ3 => some σ3)))) = some res := hf
  refine k_bind hf (fun σ1 hσ1 hf => ?_)
  refine rl0.tr (r0_p hσ1) ?_
  refine k_bind hf (fun σ2 hσ2 hf => ?_)
  refine rl0.tr (r0_p hσ2) ?_
  refine k_bind hf (fun σ3 hσ3 hf => ?_)
  refine rl0.tr (r0_p hσ3) ?_
  obtain rfl := Option.some.inj hf
  exact rl0.rf _
set_option maxHeartbeats 4000000 in
set_option maxRecDepth 100000 in
theorem met_X2_init {l : Launch} {E : xG} {a : Nat} {x1 : Int32} {x2 : Int32} {x3 : Int32} {σ : xS} {res : xS} (hf : fX2_init a x1 x2 x3 σ = some res) : xMet l yX2_init cX2_init 4 (Option.none : Option Jvm.ClassFile.FieldType) 1 24 E [.ref a, .int x1, .int x2, .int x3] σ none res := by
  replace hf : ((xp σ [(2, 0)] a (.int x1)).bind (fun σ1 => (xp σ1 [(2, 1)] a (.int x2)).bind (fun σ2 => (xp σ2 [(2, 2)] a (.int x3)).bind (fun σ3 => some σ3)))) = some res := hf
  refine x_start (by decide) (Nat.le_of_ble_eq_true rfl) ?_
  intro p e s m args below meth c S hnm hR hS ls hl
  obtain ⟨hx, hb, hml, hown, hts⟩ := S.1.1
  have hl : lv_has ls 4 [(0, .ref a), (1, .int x1), (2, .int x2), (3, .int x3)] := hl
  have hn : XN 0 0 (xnx σ) (xns σ) (xnx res) (xns res) σ := ⟨Nat.zero_add _, Nat.zero_add _, (r0_X2_init (a := a) (x1 := x1) (x2 := x2) (x3 := x3) (σ := σ) hf).le.1, (r0_X2_init (a := a) (x1 := x1) (x2 := x2) (x3 := x3) (σ := σ) hf).le.2⟩
  refine lv_aload_n hx hb dX2_init_0 rfl (lv_at hl 0 rfl) ?_
  refine W.objInit hx hb hown (hts _ q231) (hts _ q175) (hts _ q176) rfl (by rw [hml]; exact hl.1) rfl dX2_init_1 (Nat.le_of_ble_eq_true rfl) (Nat.le_of_ble_eq_true rfl) ?_
  refine lv_aload_n hx hb dX2_init_4 rfl (lv_at hl 0 rfl) ?_
  refine lv_iload_n hx hb dX2_init_5 rfl (lv_at hl 1 rfl) ?_
  refine k_bind hf (fun σ1 hσ1 hf => ?_)
  refine x_putF S hnm hR hS pt_X2_7 rfl rfl hσ1 dX2_init_6 (fun H locs hR hS => ?_)
  replace hn := hn.to (r0_p hσ1)
  refine lv_aload_n hx hb dX2_init_9 rfl (lv_at hl 0 rfl) ?_
  refine lv_iload_n hx hb dX2_init_10 rfl (lv_at hl 2 rfl) ?_
  refine k_bind hf (fun σ2 hσ2 hf => ?_)
  refine x_putF S hnm hR hS pt_X2_13 rfl rfl hσ2 dX2_init_11 (fun H locs hR hS => ?_)
  replace hn := hn.to (r0_p hσ2)
  refine lv_aload_n hx hb dX2_init_14 rfl (lv_at hl 0 rfl) ?_
  refine lv_iload_n hx hb dX2_init_15 rfl (lv_at hl 3 rfl) ?_
  refine k_bind hf (fun σ3 hσ3 hf => ?_)
  refine x_putF S hnm hR hS pt_X2_16 rfl rfl hσ3 dX2_init_16 (fun H locs hR hS => ?_)
  replace hn := hn.to (r0_p hσ3)
  obtain rfl := Option.some.inj hf
  exact x_vret S hR hS hn dX2_init_19

theorem lk_X0_115 : ∀ q ∈ ([(1, 2)] : List (Nat × Nat)), wLkN RX0 115 q.1 q.2 := List.forall_mem_cons.mpr ⟨⟨RX1, TX1, 4, "LinesTouched", rfl, by decide, in_X1, q192⟩, fun _ h => absurd h List.not_mem_nil⟩
noncomputable def LX0_lonelyRound_2 (y1 : Int32) (σ : xS) (q : Int32) : Option ((Int32) ⊕ ((Int32) ⊕ (Unit))) :=
  if (xN σ (0 : Fin 3) 2) ≤ q then some (Sum.inr (Sum.inr ())) else if (fX0_has y1 q) = (0 : Int32) then some (Sum.inl (q + (1 : Int32))) else (fX1_lines (0 : Fin 3) q y1 σ).bind (fun v1 => if v1 = (0 : Int32) then some (Sum.inr (Sum.inl q)) else some (Sum.inl (q + (1 : Int32))))
noncomputable def fX0_lonelyRound (x1 : Int32) (x2 : Int32) (σ : xS) : Option (Option Nat × xS) :=
  (lpw (LX0_lonelyRound_2 x1 σ) (0 : Int32)).bind ((fun e => Sum.elim (fun b3 => (xnw σ (.inr (2, [.int 0, .int 0, .int 0])) 3).bind (fun n4 => (fX2_init n4.1 (0 : Int32) (ish (1 : Int32) b3) (0 : Int32) n4.2).bind (fun e5 => some ((some n4.1), e5)))) (fun b6 => some (none, σ)) e))
theorem wi_X0_lonelyRound : wInfV yX0_lonelyRound cX0_lonelyRound 4 (Option.some (Jvm.ClassFile.FieldType.object "LinesTouched$Round")) 2 := ⟨q208, qs0, q106, q209, (by decide +kernel), (by decide +kernel), (by decide +kernel)⟩
set_option maxHeartbeats 4000000 in
set_option maxRecDepth 100000 in
theorem r1_X0_lonelyRound {x1 : Int32} {x2 : Int32} {σ : xS} {res : Option Nat × xS} (hf : fX0_lonelyRound x1 x2 σ = some res) : rl1 σ res.2 := by
  replace hf : ((lpw (LX0_lonelyRound_2 x1 σ) (0 : Int32)).bind ((fun e => Sum.elim (fun b3 => (xnw σ (.inr (2, [.int 0, .int 0, .int 0])) 3).bind (fun n4 => (fX2_init n4.1 (0 : Int32) (ish (1 : Int32) b3) (0 : Int32) n4.2).bind (fun e5 => some ((some n4.1), e5)))) (fun b6 => some (none, σ)) e))) = some res := hf
  refine k_bind hf (fun b2 hb2 hf => ?_)
  rcases b2 with b3 | b6
  · replace hf := o_l hf
    refine k_bind hf (fun n4 hn4 hf => ?_)
    refine rl1.tr (r1_nw hn4) ?_
    refine k_bind hf (fun e5 he5 hf => ?_)
    refine rl0.tr1 (r0_X2_init he5) ?_
    obtain rfl := Option.some.inj hf
    exact rl1.rf _
  · replace hf := o_r hf
    obtain rfl := Option.some.inj hf
    exact rl1.rf _
set_option maxHeartbeats 4000000 in
set_option maxRecDepth 100000 in
theorem wbLX0_lonelyRound_2 {l : Launch} {E : xG} {p : Program} {e : Env} {s : State} {m : MethodId} {args : Array Value} {below : List Frame} {meth : Method} {c : Code} {Q : State → Prop} {n0 s0 nf sf : Nat} {y1 : Int32} {σ : xS} {q : Int32} {res : (Int32) ⊕ ((Int32) ⊕ (Unit))} (S : xSt E RX0 p m c cX0_lonelyRound 4 s args meth (Option.some (Jvm.ClassFile.FieldType.object "LinesTouched$Round"))) (hf : LX0_lonelyRound_2 y1 σ q = some res) (hK : ∀ q, res = Sum.inl q → (∀ (H : Heap) (locs : List Loc) (cells slots : Nat) (ls : Array Slot), xR E σ H → va_S (xAA E) s.heap H locs → XN cells slots n0 s0 nf sf σ → lv_has ls 4 [(0, .ref (xo E)), (1, .int y1), (3, .int q)] → W p l e (xRm 3 62 (nf - n0) (sf - s0)) s m args below meth c H locs cells slots Q (F0 m 2 ls []))) (hE33 : ∀ b, res = Sum.inr (Sum.inl b) → (∀ (H : Heap) (locs : List Loc) (cells slots : Nat) (ls : Array Slot), xR E σ H → va_S (xAA E) s.heap H locs → XN cells slots n0 s0 nf sf σ → lv_has ls 4 [(3, .int b)] → W p l e (xRm 3 62 (nf - n0) (sf - s0)) s m args below meth c H locs cells slots Q (F0 m 33 ls []))) (hE52 : ∀ b, res = Sum.inr (Sum.inr b) → (∀ (H : Heap) (locs : List Loc) (cells slots : Nat) (ls : Array Slot), xR E σ H → va_S (xAA E) s.heap H locs → XN cells slots n0 s0 nf sf σ → lv_has ls 4 [] → W p l e (xRm 3 62 (nf - n0) (sf - s0)) s m args below meth c H locs cells slots Q (F0 m 52 ls []))) : (∀ (H : Heap) (locs : List Loc) (cells slots : Nat) (ls : Array Slot), xR E σ H → va_S (xAA E) s.heap H locs → XN cells slots n0 s0 nf sf σ → lv_has ls 4 [(0, .ref (xo E)), (1, .int y1), (3, .int q)] → W p l e (xRm 3 62 (nf - n0) (sf - s0)) s m args below meth c H locs cells slots Q (F0 m 2 ls [])) := by
  replace hf : (if (xN σ (0 : Fin 3) 2) ≤ q then some (Sum.inr (Sum.inr ())) else if (fX0_has y1 q) = (0 : Int32) then some (Sum.inl (q + (1 : Int32))) else (fX1_lines (0 : Fin 3) q y1 σ).bind (fun v1 => if v1 = (0 : Int32) then some (Sum.inr (Sum.inl q)) else some (Sum.inl (q + (1 : Int32))))) = some res := hf
  obtain ⟨hx, hb, hml, hown, hts⟩ := S.1.1
  intro H locs cells slots ls hR hS hn hl
  refine lv_iload_n hx hb dX0_lonelyRound_2 rfl (lv_at hl 2 rfl) ?_
  refine lv_aload_n hx hb dX0_lonelyRound_3 rfl (lv_at hl 0 rfl) ?_
  refine x_oget (k := 0) (v := .ref (xnt E (0 : Fin 3))) S hR (lk_X0_10 _ List.mem_cons_self) rfl dX0_lonelyRound_4 ?_
  refine x_ngetN (j := (0 : Fin 3)) (k := 2) (v := .int (xN σ (0 : Fin 3) 2)) S hR (lk_X0_115 _ List.mem_cons_self) rfl dX0_lonelyRound_7 ?_
  refine lv_icmp_ge (tgt := 52) hx hb dX0_lonelyRound_10 (by decide) (fun c_10 => ?_) (fun c_10 => ?_)
  · replace hf := o_t hf c_10
    exact hE52 _ (Option.some.inj hf).symm _ _ _ _ _ hR hS hn (lv_sub (l' := []) hl [] rfl)
  · replace hf := o_f hf c_10
    refine lv_iload_n hx hb dX0_lonelyRound_13 rfl (lv_at hl 1 rfl) ?_
    refine lv_iload_n hx hb dX0_lonelyRound_14 rfl (lv_at hl 2 rfl) ?_
    refine s_call (As := [.int y1, .int q]) (rest := []) S.1.1 (met_X0_has rfl) wi_X0_has q210 ⟨rfl, rfl⟩ ⟨Nat.le_of_ble_eq_true rfl, Nat.le_of_ble_eq_true rfl⟩ rfl hl.1 rfl (Nat.le_of_ble_eq_true rfl) dX0_lonelyRound_15 hn.cs ?_
    refine lv_if_eq (tgt := 46) hx hb dX0_lonelyRound_18 (by decide) (fun c_18 => ?_) (fun c_18 => ?_)
    · replace hf := o_t hf c_18
      refine lv_iinc (lv' := [(3, .int (q + (1 : Int32))), (0, .ref (xo E)), (1, .int y1)]) hx hb dX0_lonelyRound_46 hl (k := 2) rfl (m_inc (by decide)) (by decide) rfl (fun ls hl => ?_)
      refine lv_goto (tgt := 2) hx hb dX0_lonelyRound_49 (by decide) ?_
      exact hK _ (Option.some.inj hf).symm _ _ _ _ _ hR hS hn (lv_sub (l' := [(0, .ref (xo E)), (1, .int y1), (3, .int (q + (1 : Int32)))]) hl [1, 2, 0] rfl)
    · replace hf := o_f hf c_18
      refine lv_aload_n hx hb dX0_lonelyRound_21 rfl (lv_at hl 0 rfl) ?_
      refine x_oget (k := 0) (v := .ref (xnt E (0 : Fin 3))) S hR (lk_X0_10 _ List.mem_cons_self) rfl dX0_lonelyRound_22 ?_
      refine lv_iload_n hx hb dX0_lonelyRound_25 rfl (lv_at hl 2 rfl) ?_
      refine lv_iload_n hx hb dX0_lonelyRound_26 rfl (lv_at hl 1 rfl) ?_
      refine k_bind hf (fun v1 hv1 hf => ?_)
      refine x_call (C := RX1) (As := [.int q, .int y1]) (rest := []) S hR hS hn (met_X1_lines hv1) (rl1.rf _) (hn.b (rl0.rf _)) wi_X1_lines (xrc S.2 hR (ci := 1) rfl (Or.inr (Or.inl ⟨_, rfl, rfl⟩))) rfl q213 ⟨Nat.le_of_ble_eq_true rfl, Nat.le_of_ble_eq_true rfl⟩ rfl hl.1 rfl (Nat.le_of_ble_eq_true rfl) dX0_lonelyRound_27 (fun H locs cells slots hR hS hn => ?_)
      refine lv_if_ne (tgt := 46) hx hb dX0_lonelyRound_30 (by decide) (fun c_30 => ?_) (fun c_30 => ?_)
      · replace hf := o_f hf c_30
        refine lv_iinc (lv' := [(3, .int (q + (1 : Int32))), (0, .ref (xo E)), (1, .int y1)]) hx hb dX0_lonelyRound_46 hl (k := 2) rfl (m_inc (by decide)) (by decide) rfl (fun ls hl => ?_)
        refine lv_goto (tgt := 2) hx hb dX0_lonelyRound_49 (by decide) ?_
        exact hK _ (Option.some.inj hf).symm _ _ _ _ _ hR hS hn (lv_sub (l' := [(0, .ref (xo E)), (1, .int y1), (3, .int (q + (1 : Int32)))]) hl [1, 2, 0] rfl)
      · replace hf := o_t hf c_30
        exact hE33 _ (Option.some.inj hf).symm _ _ _ _ _ hR hS hn (lv_sub (l' := [(3, .int q)]) hl [2] rfl)
set_option maxHeartbeats 4000000 in
set_option maxRecDepth 100000 in
theorem wLX0_lonelyRound_2 {l : Launch} {E : xG} {p : Program} {e : Env} {s : State} {m : MethodId} {args : Array Value} {below : List Frame} {meth : Method} {c : Code} {Q : State → Prop} {n0 s0 nf sf : Nat} {y1 : Int32} {σ : xS} {q : Int32} {res : (Int32) ⊕ (Unit)} (S : xSt E RX0 p m c cX0_lonelyRound 4 s args meth (Option.some (Jvm.ClassFile.FieldType.object "LinesTouched$Round"))) (h : lpw (LX0_lonelyRound_2 y1 σ) q = some res) (hE33 : ∀ b, res = (Sum.inl b) → (∀ (H : Heap) (locs : List Loc) (cells slots : Nat) (ls : Array Slot), xR E σ H → va_S (xAA E) s.heap H locs → XN cells slots n0 s0 nf sf σ → lv_has ls 4 [(3, .int b)] → W p l e (xRm 3 62 (nf - n0) (sf - s0)) s m args below meth c H locs cells slots Q (F0 m 33 ls []))) (hE52 : ∀ b, res = (Sum.inr b) → (∀ (H : Heap) (locs : List Loc) (cells slots : Nat) (ls : Array Slot), xR E σ H → va_S (xAA E) s.heap H locs → XN cells slots n0 s0 nf sf σ → lv_has ls 4 [] → W p l e (xRm 3 62 (nf - n0) (sf - s0)) s m args below meth c H locs cells slots Q (F0 m 52 ls []))) : (∀ (H : Heap) (locs : List Loc) (cells slots : Nat) (ls : Array Slot), xR E σ H → va_S (xAA E) s.heap H locs → XN cells slots n0 s0 nf sf σ → lv_has ls 4 [(0, .ref (xo E)), (1, .int y1), (3, .int q)] → W p l e (xRm 3 62 (nf - n0) (sf - s0)) s m args below meth c H locs cells slots Q (F0 m 2 ls [])) :=
  lpw_go _ (fun q => (∀ (H : Heap) (locs : List Loc) (cells slots : Nat) (ls : Array Slot), xR E σ H → va_S (xAA E) s.heap H locs → XN cells slots n0 s0 nf sf σ → lv_has ls 4 [(0, .ref (xo E)), (1, .int y1), (3, .int q)] → W p l e (xRm 3 62 (nf - n0) (sf - s0)) s m args below meth c H locs cells slots Q (F0 m 2 ls []))) (fun b0 => (∀ b, b0 = (Sum.inl b) → (∀ (H : Heap) (locs : List Loc) (cells slots : Nat) (ls : Array Slot), xR E σ H → va_S (xAA E) s.heap H locs → XN cells slots n0 s0 nf sf σ → lv_has ls 4 [(3, .int b)] → W p l e (xRm 3 62 (nf - n0) (sf - s0)) s m args below meth c H locs cells slots Q (F0 m 33 ls []))) ∧ (∀ b, b0 = (Sum.inr b) → (∀ (H : Heap) (locs : List Loc) (cells slots : Nat) (ls : Array Slot), xR E σ H → va_S (xAA E) s.heap H locs → XN cells slots n0 s0 nf sf σ → lv_has ls 4 [] → W p l e (xRm 3 62 (nf - n0) (sf - s0)) s m args below meth c H locs cells slots Q (F0 m 52 ls [])))) (fun q x hf hK hX => wbLX0_lonelyRound_2 S hf hK (fun b eb => (hX _ eb).1 b rfl) (fun b eb => (hX _ eb).2 b rfl)) q res h ⟨hE33, hE52⟩
set_option maxHeartbeats 4000000 in
set_option maxRecDepth 100000 in
theorem met_X0_lonelyRound {l : Launch} {E : xG} {x1 : Int32} {x2 : Int32} {σ : xS} {res : Option Nat × xS} (hf : fX0_lonelyRound x1 x2 σ = some res) : xMet l yX0_lonelyRound cX0_lonelyRound 4 (Option.some (Jvm.ClassFile.FieldType.object "LinesTouched$Round")) 3 62 E [.ref (xo E), .int x1, .int x2] σ (some (va_rf res.1)) res.2 := by
  replace hf : ((lpw (LX0_lonelyRound_2 x1 σ) (0 : Int32)).bind ((fun e => Sum.elim (fun b3 => (xnw σ (.inr (2, [.int 0, .int 0, .int 0])) 3).bind (fun n4 => (fX2_init n4.1 (0 : Int32) (ish (1 : Int32) b3) (0 : Int32) n4.2).bind (fun e5 => some ((some n4.1), e5)))) (fun b6 => some (none, σ)) e))) = some res := hf
  refine x_start (by decide) (Nat.le_of_ble_eq_true rfl) ?_
  intro p e s m args below meth c S hnm hR hS ls hl
  obtain ⟨hx, hb, hml, hown, hts⟩ := S.1.1
  have hl : lv_has ls 4 [(0, .ref (xo E)), (1, .int x1), (2, .int x2)] := hl
  have hn : XN 0 0 (xnx σ) (xns σ) (xnx res.2) (xns res.2) σ := ⟨Nat.zero_add _, Nat.zero_add _, (r1_X0_lonelyRound (x1 := x1) (x2 := x2) (σ := σ) hf).1, (r1_X0_lonelyRound (x1 := x1) (x2 := x2) (σ := σ) hf).2⟩
  have hb9 : XB (xnx res.2) (xns res.2) res.2 := ⟨Nat.le_refl _, Nat.le_refl _⟩
  refine lv_iconst (v := 0) hx hb dX0_lonelyRound_0 (by decide) ?_
  refine lv_istore_n (lv' := [(3, .int (0 : Int32)), (0, .ref (xo E)), (1, .int x1), (2, .int x2)]) hx hb dX0_lonelyRound_1 rfl hl (by decide) rfl (fun ls hl => ?_)
  refine k_bind hf (fun b2 hb2 hf => ?_)
  refine wLX0_lonelyRound_2 S hb2 ?_ ?_ _ _ _ _ _ hR hS hn (lv_sub (l' := [(0, .ref (xo E)), (1, .int x1), (3, .int (0 : Int32))]) hl [1, 2, 0] rfl)
  · intro b3 eb; subst eb; intro H locs cells slots ls hR hS hn hl
    replace hf := o_l hf
    refine k_bind hf (fun n4 hn4 hf => ?_)
    have hbn4 : XB (xnx res.2) (xns res.2) n4.2 := hb9.back (by
      refine k_bind hf (fun e5 he5 hf => ?_)
      refine rl0.tr1 (r0_X2_init he5) ?_
      obtain rfl := Option.some.inj hf
      exact rl1.rf _)
    refine x_newQ (T := TX2) (ty := tyX2) S hR hS hn hn4 hbn4 rfl in_X2 tyX2_ok (by decide +kernel) q226 q227 q110 dX0_lonelyRound_33 (fun H cells slots hR hS hn => ?_)
    refine lv_dup hx hb dX0_lonelyRound_36 rfl ?_
    refine lv_iconst (v := 0) hx hb dX0_lonelyRound_37 (by decide) ?_
    refine lv_iconst (v := 1) hx hb dX0_lonelyRound_38 (by decide) ?_
    refine lv_iload_n hx hb dX0_lonelyRound_39 rfl (lv_at hl 0 rfl) ?_
    refine lv_ishl hx hb dX0_lonelyRound_40 ?_
    refine lv_iconst (v := 0) hx hb dX0_lonelyRound_41 (by decide) ?_
    refine k_bind hf (fun e5 he5 hf => ?_)
    refine x_callI (As := [.int (0 : Int32), .int (ish (1 : Int32) b3), .int (0 : Int32)]) (rest := [.ref n4.1]) S hR hS hn (met_X2_init he5) (r0_X2_init he5).le (hn.b (r0_X2_init he5)) wi_X2_init q228 ⟨Nat.le_of_ble_eq_true rfl, Nat.le_of_ble_eq_true rfl⟩ rfl hl.1 rfl (Nat.le_of_ble_eq_true rfl) dX0_lonelyRound_42 (fun H locs cells slots hR hS hn => ?_)
    obtain rfl := Option.some.inj hf
    exact x_aret (r := (some n4.1)) S (Or.inl ⟨_, rfl⟩) hR hS hn dX0_lonelyRound_45
  · intro b6 eb; subst eb; intro H locs cells slots ls hR hS hn hl
    replace hf := o_r hf
    refine lv_null hx hb dX0_lonelyRound_52 ?_
    obtain rfl := Option.some.inj hf
    exact x_aret (r := none) S (Or.inl ⟨_, rfl⟩) hR hS hn dX0_lonelyRound_53


noncomputable def LX0_crowdedRound_2 (y1 : Int32) (y2 : Int32) (σ : xS) (q : Int32) : Option ((Int32) ⊕ ((Int32) ⊕ (Unit))) :=
  if (xN σ (0 : Fin 3) 2) ≤ q then some (Sum.inr (Sum.inr ())) else if (fX0_has y1 q) = (0 : Int32) then some (Sum.inl (q + (1 : Int32))) else (fX1_lines (0 : Fin 3) q y1 σ).bind (fun v1 => if v1 ≤ y2 then some (Sum.inl (q + (1 : Int32))) else some (Sum.inr (Sum.inl q)))
noncomputable def fX0_crowdedRound (x1 : Int32) (x2 : Int32) (σ : xS) : Option (Option Nat × xS) :=
  (lpw (LX0_crowdedRound_2 x1 x2 σ) (0 : Int32)).bind ((fun e => Sum.elim (fun b3 => (xnw σ (.inr (2, [.int 0, .int 0, .int 0])) 3).bind (fun n4 => (fX2_init n4.1 (1 : Int32) (ish (1 : Int32) b3) (ish (1 : Int32) b3) n4.2).bind (fun e5 => some ((some n4.1), e5)))) (fun b6 => some (none, σ)) e))
theorem wi_X0_crowdedRound : wInfV yX0_crowdedRound cX0_crowdedRound 4 (Option.some (Jvm.ClassFile.FieldType.object "LinesTouched$Round")) 2 := ⟨q247, qs1, q106, q248, (by decide +kernel), (by decide +kernel), (by decide +kernel)⟩
set_option maxHeartbeats 4000000 in
set_option maxRecDepth 100000 in
theorem r1_X0_crowdedRound {x1 : Int32} {x2 : Int32} {σ : xS} {res : Option Nat × xS} (hf : fX0_crowdedRound x1 x2 σ = some res) : rl1 σ res.2 := by
  replace hf : ((lpw (LX0_crowdedRound_2 x1 x2 σ) (0 : Int32)).bind ((fun e => Sum.elim (fun b3 => (xnw σ (.inr (2, [.int 0, .int 0, .int 0])) 3).bind (fun n4 => (fX2_init n4.1 (1 : Int32) (ish (1 : Int32) b3) (ish (1 : Int32) b3) n4.2).bind (fun e5 => some ((some n4.1), e5)))) (fun b6 => some (none, σ)) e))) = some res := hf
  refine k_bind hf (fun b2 hb2 hf => ?_)
  rcases b2 with b3 | b6
  · replace hf := o_l hf
    refine k_bind hf (fun n4 hn4 hf => ?_)
    refine rl1.tr (r1_nw hn4) ?_
    refine k_bind hf (fun e5 he5 hf => ?_)
    refine rl0.tr1 (r0_X2_init he5) ?_
    obtain rfl := Option.some.inj hf
    exact rl1.rf _
  · replace hf := o_r hf
    obtain rfl := Option.some.inj hf
    exact rl1.rf _
set_option maxHeartbeats 4000000 in
set_option maxRecDepth 100000 in
theorem wbLX0_crowdedRound_2 {l : Launch} {E : xG} {p : Program} {e : Env} {s : State} {m : MethodId} {args : Array Value} {below : List Frame} {meth : Method} {c : Code} {Q : State → Prop} {n0 s0 nf sf : Nat} {y1 : Int32} {y2 : Int32} {σ : xS} {q : Int32} {res : (Int32) ⊕ ((Int32) ⊕ (Unit))} (S : xSt E RX0 p m c cX0_crowdedRound 4 s args meth (Option.some (Jvm.ClassFile.FieldType.object "LinesTouched$Round"))) (hf : LX0_crowdedRound_2 y1 y2 σ q = some res) (hK : ∀ q, res = Sum.inl q → (∀ (H : Heap) (locs : List Loc) (cells slots : Nat) (ls : Array Slot), xR E σ H → va_S (xAA E) s.heap H locs → XN cells slots n0 s0 nf sf σ → lv_has ls 4 [(0, .ref (xo E)), (1, .int y1), (2, .int y2), (3, .int q)] → W p l e (xRm 3 62 (nf - n0) (sf - s0)) s m args below meth c H locs cells slots Q (F0 m 2 ls []))) (hE34 : ∀ b, res = Sum.inr (Sum.inl b) → (∀ (H : Heap) (locs : List Loc) (cells slots : Nat) (ls : Array Slot), xR E σ H → va_S (xAA E) s.heap H locs → XN cells slots n0 s0 nf sf σ → lv_has ls 4 [(3, .int b)] → W p l e (xRm 3 62 (nf - n0) (sf - s0)) s m args below meth c H locs cells slots Q (F0 m 34 ls []))) (hE55 : ∀ b, res = Sum.inr (Sum.inr b) → (∀ (H : Heap) (locs : List Loc) (cells slots : Nat) (ls : Array Slot), xR E σ H → va_S (xAA E) s.heap H locs → XN cells slots n0 s0 nf sf σ → lv_has ls 4 [] → W p l e (xRm 3 62 (nf - n0) (sf - s0)) s m args below meth c H locs cells slots Q (F0 m 55 ls []))) : (∀ (H : Heap) (locs : List Loc) (cells slots : Nat) (ls : Array Slot), xR E σ H → va_S (xAA E) s.heap H locs → XN cells slots n0 s0 nf sf σ → lv_has ls 4 [(0, .ref (xo E)), (1, .int y1), (2, .int y2), (3, .int q)] → W p l e (xRm 3 62 (nf - n0) (sf - s0)) s m args below meth c H locs cells slots Q (F0 m 2 ls [])) := by
  replace hf : (if (xN σ (0 : Fin 3) 2) ≤ q then some (Sum.inr (Sum.inr ())) else if (fX0_has y1 q) = (0 : Int32) then some (Sum.inl (q + (1 : Int32))) else (fX1_lines (0 : Fin 3) q y1 σ).bind (fun v1 => if v1 ≤ y2 then some (Sum.inl (q + (1 : Int32))) else some (Sum.inr (Sum.inl q)))) = some res := hf
  obtain ⟨hx, hb, hml, hown, hts⟩ := S.1.1
  intro H locs cells slots ls hR hS hn hl
  refine lv_iload_n hx hb dX0_crowdedRound_2 rfl (lv_at hl 3 rfl) ?_
  refine lv_aload_n hx hb dX0_crowdedRound_3 rfl (lv_at hl 0 rfl) ?_
  refine x_oget (k := 0) (v := .ref (xnt E (0 : Fin 3))) S hR (lk_X0_10 _ List.mem_cons_self) rfl dX0_crowdedRound_4 ?_
  refine x_ngetN (j := (0 : Fin 3)) (k := 2) (v := .int (xN σ (0 : Fin 3) 2)) S hR (lk_X0_115 _ List.mem_cons_self) rfl dX0_crowdedRound_7 ?_
  refine lv_icmp_ge (tgt := 55) hx hb dX0_crowdedRound_10 (by decide) (fun c_10 => ?_) (fun c_10 => ?_)
  · replace hf := o_t hf c_10
    exact hE55 _ (Option.some.inj hf).symm _ _ _ _ _ hR hS hn (lv_sub (l' := []) hl [] rfl)
  · replace hf := o_f hf c_10
    refine lv_iload_n hx hb dX0_crowdedRound_13 rfl (lv_at hl 1 rfl) ?_
    refine lv_iload_n hx hb dX0_crowdedRound_14 rfl (lv_at hl 3 rfl) ?_
    refine s_call (As := [.int y1, .int q]) (rest := []) S.1.1 (met_X0_has rfl) wi_X0_has q210 ⟨rfl, rfl⟩ ⟨Nat.le_of_ble_eq_true rfl, Nat.le_of_ble_eq_true rfl⟩ rfl hl.1 rfl (Nat.le_of_ble_eq_true rfl) dX0_crowdedRound_15 hn.cs ?_
    refine lv_if_eq (tgt := 49) hx hb dX0_crowdedRound_18 (by decide) (fun c_18 => ?_) (fun c_18 => ?_)
    · replace hf := o_t hf c_18
      refine lv_iinc (lv' := [(3, .int (q + (1 : Int32))), (0, .ref (xo E)), (1, .int y1), (2, .int y2)]) hx hb dX0_crowdedRound_49 hl (k := 3) rfl (m_inc (by decide)) (by decide) rfl (fun ls hl => ?_)
      refine lv_goto (tgt := 2) hx hb dX0_crowdedRound_52 (by decide) ?_
      exact hK _ (Option.some.inj hf).symm _ _ _ _ _ hR hS hn (lv_sub (l' := [(0, .ref (xo E)), (1, .int y1), (2, .int y2), (3, .int (q + (1 : Int32)))]) hl [1, 2, 3, 0] rfl)
    · replace hf := o_f hf c_18
      refine lv_aload_n hx hb dX0_crowdedRound_21 rfl (lv_at hl 0 rfl) ?_
      refine x_oget (k := 0) (v := .ref (xnt E (0 : Fin 3))) S hR (lk_X0_10 _ List.mem_cons_self) rfl dX0_crowdedRound_22 ?_
      refine lv_iload_n hx hb dX0_crowdedRound_25 rfl (lv_at hl 3 rfl) ?_
      refine lv_iload_n hx hb dX0_crowdedRound_26 rfl (lv_at hl 1 rfl) ?_
      refine k_bind hf (fun v1 hv1 hf => ?_)
      refine x_call (C := RX1) (As := [.int q, .int y1]) (rest := []) S hR hS hn (met_X1_lines hv1) (rl1.rf _) (hn.b (rl0.rf _)) wi_X1_lines (xrc S.2 hR (ci := 1) rfl (Or.inr (Or.inl ⟨_, rfl, rfl⟩))) rfl q213 ⟨Nat.le_of_ble_eq_true rfl, Nat.le_of_ble_eq_true rfl⟩ rfl hl.1 rfl (Nat.le_of_ble_eq_true rfl) dX0_crowdedRound_27 (fun H locs cells slots hR hS hn => ?_)
      refine lv_iload_n hx hb dX0_crowdedRound_30 rfl (lv_at hl 2 rfl) ?_
      refine lv_icmp_le (tgt := 49) hx hb dX0_crowdedRound_31 (by decide) (fun c_31 => ?_) (fun c_31 => ?_)
      · replace hf := o_t hf c_31
        refine lv_iinc (lv' := [(3, .int (q + (1 : Int32))), (0, .ref (xo E)), (1, .int y1), (2, .int y2)]) hx hb dX0_crowdedRound_49 hl (k := 3) rfl (m_inc (by decide)) (by decide) rfl (fun ls hl => ?_)
        refine lv_goto (tgt := 2) hx hb dX0_crowdedRound_52 (by decide) ?_
        exact hK _ (Option.some.inj hf).symm _ _ _ _ _ hR hS hn (lv_sub (l' := [(0, .ref (xo E)), (1, .int y1), (2, .int y2), (3, .int (q + (1 : Int32)))]) hl [1, 2, 3, 0] rfl)
      · replace hf := o_f hf c_31
        exact hE34 _ (Option.some.inj hf).symm _ _ _ _ _ hR hS hn (lv_sub (l' := [(3, .int q)]) hl [3] rfl)
set_option maxHeartbeats 4000000 in
set_option maxRecDepth 100000 in
theorem wLX0_crowdedRound_2 {l : Launch} {E : xG} {p : Program} {e : Env} {s : State} {m : MethodId} {args : Array Value} {below : List Frame} {meth : Method} {c : Code} {Q : State → Prop} {n0 s0 nf sf : Nat} {y1 : Int32} {y2 : Int32} {σ : xS} {q : Int32} {res : (Int32) ⊕ (Unit)} (S : xSt E RX0 p m c cX0_crowdedRound 4 s args meth (Option.some (Jvm.ClassFile.FieldType.object "LinesTouched$Round"))) (h : lpw (LX0_crowdedRound_2 y1 y2 σ) q = some res) (hE34 : ∀ b, res = (Sum.inl b) → (∀ (H : Heap) (locs : List Loc) (cells slots : Nat) (ls : Array Slot), xR E σ H → va_S (xAA E) s.heap H locs → XN cells slots n0 s0 nf sf σ → lv_has ls 4 [(3, .int b)] → W p l e (xRm 3 62 (nf - n0) (sf - s0)) s m args below meth c H locs cells slots Q (F0 m 34 ls []))) (hE55 : ∀ b, res = (Sum.inr b) → (∀ (H : Heap) (locs : List Loc) (cells slots : Nat) (ls : Array Slot), xR E σ H → va_S (xAA E) s.heap H locs → XN cells slots n0 s0 nf sf σ → lv_has ls 4 [] → W p l e (xRm 3 62 (nf - n0) (sf - s0)) s m args below meth c H locs cells slots Q (F0 m 55 ls []))) : (∀ (H : Heap) (locs : List Loc) (cells slots : Nat) (ls : Array Slot), xR E σ H → va_S (xAA E) s.heap H locs → XN cells slots n0 s0 nf sf σ → lv_has ls 4 [(0, .ref (xo E)), (1, .int y1), (2, .int y2), (3, .int q)] → W p l e (xRm 3 62 (nf - n0) (sf - s0)) s m args below meth c H locs cells slots Q (F0 m 2 ls [])) :=
  lpw_go _ (fun q => (∀ (H : Heap) (locs : List Loc) (cells slots : Nat) (ls : Array Slot), xR E σ H → va_S (xAA E) s.heap H locs → XN cells slots n0 s0 nf sf σ → lv_has ls 4 [(0, .ref (xo E)), (1, .int y1), (2, .int y2), (3, .int q)] → W p l e (xRm 3 62 (nf - n0) (sf - s0)) s m args below meth c H locs cells slots Q (F0 m 2 ls []))) (fun b0 => (∀ b, b0 = (Sum.inl b) → (∀ (H : Heap) (locs : List Loc) (cells slots : Nat) (ls : Array Slot), xR E σ H → va_S (xAA E) s.heap H locs → XN cells slots n0 s0 nf sf σ → lv_has ls 4 [(3, .int b)] → W p l e (xRm 3 62 (nf - n0) (sf - s0)) s m args below meth c H locs cells slots Q (F0 m 34 ls []))) ∧ (∀ b, b0 = (Sum.inr b) → (∀ (H : Heap) (locs : List Loc) (cells slots : Nat) (ls : Array Slot), xR E σ H → va_S (xAA E) s.heap H locs → XN cells slots n0 s0 nf sf σ → lv_has ls 4 [] → W p l e (xRm 3 62 (nf - n0) (sf - s0)) s m args below meth c H locs cells slots Q (F0 m 55 ls [])))) (fun q x hf hK hX => wbLX0_crowdedRound_2 S hf hK (fun b eb => (hX _ eb).1 b rfl) (fun b eb => (hX _ eb).2 b rfl)) q res h ⟨hE34, hE55⟩
set_option maxHeartbeats 4000000 in
set_option maxRecDepth 100000 in
theorem met_X0_crowdedRound {l : Launch} {E : xG} {x1 : Int32} {x2 : Int32} {σ : xS} {res : Option Nat × xS} (hf : fX0_crowdedRound x1 x2 σ = some res) : xMet l yX0_crowdedRound cX0_crowdedRound 4 (Option.some (Jvm.ClassFile.FieldType.object "LinesTouched$Round")) 3 62 E [.ref (xo E), .int x1, .int x2] σ (some (va_rf res.1)) res.2 := by
  replace hf : ((lpw (LX0_crowdedRound_2 x1 x2 σ) (0 : Int32)).bind ((fun e => Sum.elim (fun b3 => (xnw σ (.inr (2, [.int 0, .int 0, .int 0])) 3).bind (fun n4 => (fX2_init n4.1 (1 : Int32) (ish (1 : Int32) b3) (ish (1 : Int32) b3) n4.2).bind (fun e5 => some ((some n4.1), e5)))) (fun b6 => some (none, σ)) e))) = some res := hf
  refine x_start (by decide) (Nat.le_of_ble_eq_true rfl) ?_
  intro p e s m args below meth c S hnm hR hS ls hl
  obtain ⟨hx, hb, hml, hown, hts⟩ := S.1.1
  have hl : lv_has ls 4 [(0, .ref (xo E)), (1, .int x1), (2, .int x2)] := hl
  have hn : XN 0 0 (xnx σ) (xns σ) (xnx res.2) (xns res.2) σ := ⟨Nat.zero_add _, Nat.zero_add _, (r1_X0_crowdedRound (x1 := x1) (x2 := x2) (σ := σ) hf).1, (r1_X0_crowdedRound (x1 := x1) (x2 := x2) (σ := σ) hf).2⟩
  have hb9 : XB (xnx res.2) (xns res.2) res.2 := ⟨Nat.le_refl _, Nat.le_refl _⟩
  refine lv_iconst (v := 0) hx hb dX0_crowdedRound_0 (by decide) ?_
  refine lv_istore_n (lv' := [(3, .int (0 : Int32)), (0, .ref (xo E)), (1, .int x1), (2, .int x2)]) hx hb dX0_crowdedRound_1 rfl hl (by decide) rfl (fun ls hl => ?_)
  refine k_bind hf (fun b2 hb2 hf => ?_)
  refine wLX0_crowdedRound_2 S hb2 ?_ ?_ _ _ _ _ _ hR hS hn (lv_sub (l' := [(0, .ref (xo E)), (1, .int x1), (2, .int x2), (3, .int (0 : Int32))]) hl [1, 2, 3, 0] rfl)
  · intro b3 eb; subst eb; intro H locs cells slots ls hR hS hn hl
    replace hf := o_l hf
    refine k_bind hf (fun n4 hn4 hf => ?_)
    have hbn4 : XB (xnx res.2) (xns res.2) n4.2 := hb9.back (by
      refine k_bind hf (fun e5 he5 hf => ?_)
      refine rl0.tr1 (r0_X2_init he5) ?_
      obtain rfl := Option.some.inj hf
      exact rl1.rf _)
    refine x_newQ (T := TX2) (ty := tyX2) S hR hS hn hn4 hbn4 rfl in_X2 tyX2_ok (by decide +kernel) q226 q227 q110 dX0_crowdedRound_34 (fun H cells slots hR hS hn => ?_)
    refine lv_dup hx hb dX0_crowdedRound_37 rfl ?_
    refine lv_iconst (v := 1) hx hb dX0_crowdedRound_38 (by decide) ?_
    refine lv_iconst (v := 1) hx hb dX0_crowdedRound_39 (by decide) ?_
    refine lv_iload_n hx hb dX0_crowdedRound_40 rfl (lv_at hl 0 rfl) ?_
    refine lv_ishl hx hb dX0_crowdedRound_41 ?_
    refine lv_iconst (v := 1) hx hb dX0_crowdedRound_42 (by decide) ?_
    refine lv_iload_n hx hb dX0_crowdedRound_43 rfl (lv_at hl 0 rfl) ?_
    refine lv_ishl hx hb dX0_crowdedRound_44 ?_
    refine k_bind hf (fun e5 he5 hf => ?_)
    refine x_callI (As := [.int (1 : Int32), .int (ish (1 : Int32) b3), .int (ish (1 : Int32) b3)]) (rest := [.ref n4.1]) S hR hS hn (met_X2_init he5) (r0_X2_init he5).le (hn.b (r0_X2_init he5)) wi_X2_init q228 ⟨Nat.le_of_ble_eq_true rfl, Nat.le_of_ble_eq_true rfl⟩ rfl hl.1 rfl (Nat.le_of_ble_eq_true rfl) dX0_crowdedRound_45 (fun H locs cells slots hR hS hn => ?_)
    obtain rfl := Option.some.inj hf
    exact x_aret (r := (some n4.1)) S (Or.inl ⟨_, rfl⟩) hR hS hn dX0_crowdedRound_48
  · intro b6 eb; subst eb; intro H locs cells slots ls hR hS hn hl
    replace hf := o_r hf
    refine lv_null hx hb dX0_crowdedRound_55 ?_
    obtain rfl := Option.some.inj hf
    exact x_aret (r := none) S (Or.inl ⟨_, rfl⟩) hR hS hn dX0_crowdedRound_56
