set_option maxRecDepth 100000
section CGA
variable {p : Program} {l : Launch} {e : Env} {s : State} {m : MethodId} {args : Array Value} {below : List Frame} {meth : Method} {c : Code} {D : va_G} {dA : Nat → ClassId} {ad : Nat → Nat} {A : Nat → Prop} {g : GT}
def P_X12_by (g : GT) (a0 : Nat) (a1 : Nat) (ι : S) (Q : Int32 → S → Prop) : Prop := (gK g a0 = 10 ∧ (Q (ι a0 0) ι))
set_option maxHeartbeats 2000000 in
theorem met_X12_by (l : Launch) (D : va_G) (dA : Nat → ClassId) (ad : Nat → Nat) (g : GT) (ι : S) (sz : Nat) {a0 : Nat} {a1 : Nat} {Q : Int32 → S → Prop} (hF : P_X12_by g a0 a1 ι Q) : CGi l yX12_by cX12_by 2 .int ({ frames := 0, cells := 0, slots := 0, locals := 0 } : Room) D dA ad g ι sz [pX a0, pX a1] Q := by
  unfold P_X12_by at hF
  refine ph_enter [pX a0, pX a1] (Qc := fun A => va_Qi (GQi g Q) (CB D dA ad A) A) (by decide +kernel) (Nat.le_of_ble_eq_true rfl) ?_
  intro p e s m args below meth c A ls X hP hl hnm
  have hl : LH ad ls 2 [(0, pX a0), (1, pX a1)] := hl
  refine ph_aload_n (n := 0) X hl dX12_by_0 rfl rfl ?_
  obtain ⟨hm1, hF⟩ := hF
  refine cg_geti 9 0 X in_X12 hP hm1 q1369 dX12_by_1 ?_
  exact cg_iret X hP hF dX12_by_4
def P_X13_by (g : GT) (a0 : Nat) (a1 : Nat) (ι : S) (Q : Int32 → S → Prop) : Prop := (gK g a1 = 4 ∧ (gK g a0 = 11 ∧ ((105 ≤ (gR g a0 0) ∧ (gR g a0 0) < 112) ∧ (gK g (gR g a1 0) = 100 ∧ (vp_in (nI ((gR g a0 0) - 105)) (gL g (gR g a1 0)) ∧ (Q (ι (gR g a1 0) ((nI ((gR g a0 0) - 105)).toNatClampNeg)) ι))))))
set_option maxHeartbeats 2000000 in
theorem met_X13_by (l : Launch) (D : va_G) (dA : Nat → ClassId) (ad : Nat → Nat) (g : GT) (ι : S) (sz : Nat) {a0 : Nat} {a1 : Nat} {Q : Int32 → S → Prop} (hF : P_X13_by g a0 a1 ι Q) : CGi l yX13_by cX13_by 2 .int ({ frames := 2, cells := 0, slots := 0, locals := 40 } : Room) D dA ad g ι sz [pX a0, pX a1] Q := by
  unfold P_X13_by at hF
  refine ph_enter [pX a0, pX a1] (Qc := fun A => va_Qi (GQi g Q) (CB D dA ad A) A) (by decide +kernel) (Nat.le_of_ble_eq_true rfl) ?_
  intro p e s m args below meth c A ls X hP hl hnm
  have hl : LH ad ls 2 [(0, pX a0), (1, pX a1)] := hl
  refine ph_aload_n (n := 1) X hl dX13_by_0 rfl rfl ?_
  obtain ⟨hm1, hF⟩ := hF
  refine cg_getrN 3 0 X in_X3 hP hm1 q512 dX13_by_1 ?_
  refine ph_aload_n (n := 0) X hl dX13_by_4 rfl rfl ?_
  obtain ⟨hm2, hF⟩ := hF
  refine cg_getr 10 0 X in_X13 hP hm2 q1401 dX13_by_5 ?_
  obtain ⟨hm6, hF⟩ := hF
  refine cg_ordinal X hP hl hm6 q1080 (k8 := 1) (csr (cs0 (k := 0))) (by decide) ⟨Nat.le_of_ble_eq_true rfl, Nat.le_of_ble_eq_true rfl⟩ ⟨Nat.le_refl _, Nat.le_refl _⟩ dX13_by_8 (fun H locs hP => ?_)
  obtain ⟨hm7, hF⟩ := hF
  obtain ⟨hr8, hF⟩ := hF
  refine cg_iald X hP hm7 hr8 (k := (nI ((gR g a0 0) - 105)).toNatClampNeg) rfl dX13_by_11 ?_
  exact cg_iret X hP hF dX13_by_12
def P_X14_by_200 (g : GT) (rs : Nat → Nat → S → (Int32 → S → Prop) → Prop) (Q : Int32 → S → Prop)  (ι : S) : Prop := (Q 1 ι)
def P_X14_by (g : GT) (rs : Nat → Nat → S → (Int32 → S → Prop) → Prop) (a0 : Nat) (a1 : Nat) (ι : S) (Q : Int32 → S → Prop) : Prop := (gK g a0 = 12 ∧ (rs (gR g a0 1) a1 ι (fun r5 ι6 => (rs (gR g a0 2) a1 ι6 (fun r10 ι11 => (((ι11 a0 0) = 38 → ((r5 = 0 → (Q 0 ι11)) ∧ (¬ r5 = 0 → ((r10 = 0 → (Q 0 ι11)) ∧ (¬ r10 = 0 → (Q 1 ι11)))))) ∧ ((ι11 a0 0) = 39 → ((¬ r5 = 0 → (P_X14_by_200 g rs Q ι11)) ∧ (r5 = 0 → ((r10 = 0 → (Q 0 ι11)) ∧ (¬ r10 = 0 → (P_X14_by_200 g rs Q ι11)))))) ∧ ((ι11 a0 0) = 40 → ((¬ r5 = 0 → (P_X14_by_200 g rs Q ι11)) ∧ (r5 = 0 → ((r10 = 0 → (Q 0 ι11)) ∧ (¬ r10 = 0 → (P_X14_by_200 g rs Q ι11)))))) ∧ ((ι11 a0 0) = 41 → ((¬ r5 = 0 → (P_X14_by_200 g rs Q ι11)) ∧ (r5 = 0 → ((r10 = 0 → (Q 0 ι11)) ∧ (¬ r10 = 0 → (P_X14_by_200 g rs Q ι11)))))) ∧ ((ι11 a0 0) = 42 → (Q (r5 * r10) ι11)) ∧ ((ι11 a0 0) = 43 → (Q (r5 + r10) ι11)) ∧ ((ι11 a0 0) = 44 → ((¬ r5 = 0 → (P_X14_by_200 g rs Q ι11)) ∧ (r5 = 0 → ((r10 = 0 → (Q 0 ι11)) ∧ (¬ r10 = 0 → (P_X14_by_200 g rs Q ι11)))))) ∧ ((ι11 a0 0) = 45 → (Q (r5 - r10) ι11)) ∧ ((ι11 a0 0) = 46 → ((¬ r5 = 0 → (P_X14_by_200 g rs Q ι11)) ∧ (r5 = 0 → ((r10 = 0 → (Q 0 ι11)) ∧ (¬ r10 = 0 → (P_X14_by_200 g rs Q ι11)))))) ∧ ((ι11 a0 0) = 47 → ((¬ r10 = 0 → (¬ r10 = 0 ∧ (Q (r5 / r10) ι11))) ∧ (r10 = 0 → (Q 0 ι11)))) ∧ ((ι11 a0 0) = 48 → ((¬ r5 = 0 → (P_X14_by_200 g rs Q ι11)) ∧ (r5 = 0 → ((r10 = 0 → (Q 0 ι11)) ∧ (¬ r10 = 0 → (P_X14_by_200 g rs Q ι11)))))) ∧ ((ι11 a0 0) = 49 → ((¬ r5 = 0 → (P_X14_by_200 g rs Q ι11)) ∧ (r5 = 0 → ((r10 = 0 → (Q 0 ι11)) ∧ (¬ r10 = 0 → (P_X14_by_200 g rs Q ι11)))))) ∧ ((ι11 a0 0) = 50 → ((¬ r5 = 0 → (P_X14_by_200 g rs Q ι11)) ∧ (r5 = 0 → ((r10 = 0 → (Q 0 ι11)) ∧ (¬ r10 = 0 → (P_X14_by_200 g rs Q ι11)))))) ∧ ((ι11 a0 0) = 51 → ((¬ r5 = 0 → (P_X14_by_200 g rs Q ι11)) ∧ (r5 = 0 → ((r10 = 0 → (Q 0 ι11)) ∧ (¬ r10 = 0 → (P_X14_by_200 g rs Q ι11)))))) ∧ ((ι11 a0 0) = 52 → ((¬ r5 = 0 → (P_X14_by_200 g rs Q ι11)) ∧ (r5 = 0 → ((r10 = 0 → (Q 0 ι11)) ∧ (¬ r10 = 0 → (P_X14_by_200 g rs Q ι11)))))) ∧ ((ι11 a0 0) = 53 → ((¬ r5 = 0 → (P_X14_by_200 g rs Q ι11)) ∧ (r5 = 0 → ((r10 = 0 → (Q 0 ι11)) ∧ (¬ r10 = 0 → (P_X14_by_200 g rs Q ι11)))))) ∧ ((ι11 a0 0) = 54 → ((¬ r5 = 0 → (P_X14_by_200 g rs Q ι11)) ∧ (r5 = 0 → ((r10 = 0 → (Q 0 ι11)) ∧ (¬ r10 = 0 → (P_X14_by_200 g rs Q ι11)))))) ∧ ((ι11 a0 0) = 55 → ((¬ r5 = 0 → (P_X14_by_200 g rs Q ι11)) ∧ (r5 = 0 → ((r10 = 0 → (Q 0 ι11)) ∧ (¬ r10 = 0 → (P_X14_by_200 g rs Q ι11)))))) ∧ ((ι11 a0 0) = 56 → ((¬ r5 = 0 → (P_X14_by_200 g rs Q ι11)) ∧ (r5 = 0 → ((r10 = 0 → (Q 0 ι11)) ∧ (¬ r10 = 0 → (P_X14_by_200 g rs Q ι11)))))) ∧ ((ι11 a0 0) = 57 → ((¬ r5 = 0 → (P_X14_by_200 g rs Q ι11)) ∧ (r5 = 0 → ((r10 = 0 → (Q 0 ι11)) ∧ (¬ r10 = 0 → (P_X14_by_200 g rs Q ι11)))))) ∧ ((ι11 a0 0) = 58 → ((¬ r5 = 0 → (P_X14_by_200 g rs Q ι11)) ∧ (r5 = 0 → ((r10 = 0 → (Q 0 ι11)) ∧ (¬ r10 = 0 → (P_X14_by_200 g rs Q ι11)))))) ∧ ((ι11 a0 0) = 59 → ((¬ r5 = 0 → (P_X14_by_200 g rs Q ι11)) ∧ (r5 = 0 → ((r10 = 0 → (Q 0 ι11)) ∧ (¬ r10 = 0 → (P_X14_by_200 g rs Q ι11)))))) ∧ ((ι11 a0 0) = 60 → ((r10 ≤ r5 → (Q 0 ι11)) ∧ (¬ r10 ≤ r5 → (Q 1 ι11)))) ∧ ((ι11 a0 0) = 61 → ((¬ r5 = r10 → (Q 0 ι11)) ∧ (r5 = r10 → (Q 1 ι11)))) ∧ (((ι11 a0 0).toInt < 38 ∨ 61 < (ι11 a0 0).toInt) → ((¬ r5 = 0 → (P_X14_by_200 g rs Q ι11)) ∧ (r5 = 0 → ((r10 = 0 → (Q 0 ι11)) ∧ (¬ r10 = 0 → (P_X14_by_200 g rs Q ι11))))))))))))
set_option maxHeartbeats 2000000 in
theorem w_X14_by_200 {rs : Nat → Nat → S → (Int32 → S → Prop) → Prop} {F L : Nat} (X : CX p s m args c meth cX14_by 4 (some .int) RX14 D dA ad A) (hrec : ∀ (ι : S) (sz : Nat) (a0 a1 : Nat) (Q : Int32 → S → Prop), rs a0 a1 ι Q → BYC l D dA ad g F L ι sz a0 a1 Q) {Q : Int32 → S → Prop} : ∀  (ι : S) (H : Heap) (locs : List Loc) (ls : Array Slot), P_X14_by_200 g rs Q  ι → PW D dA A s.heap ad (HS g ι) H locs → LH ad ls 4 [] → WGi p l e ({ frames := F + 3, cells := 0, slots := 0, locals := L + 64 } : Room) s m args below meth c D dA ad A g Q H locs (F0 m 200 ls []) := by
  intro  ι H locs ls hF hP hl
  unfold P_X14_by_200 at hF
  refine lv_iconst (v := 1) X.1 X.2.1 dX14_by_200 (by decide) ?_
  refine lv_goto (tgt := 205) X.1 X.2.1 dX14_by_201 (by decide) ?_
  exact cg_iret X hP hF dX14_by_205
set_option maxHeartbeats 2000000 in
theorem met_X14_by {rs : Nat → Nat → S → (Int32 → S → Prop) → Prop} {F L : Nat} (l : Launch) (D : va_G) (dA : Nat → ClassId) (ad : Nat → Nat) (g : GT) (hrec : ∀ (ι : S) (sz : Nat) (a0 a1 : Nat) (Q : Int32 → S → Prop), rs a0 a1 ι Q → BYC l D dA ad g F L ι sz a0 a1 Q) (ι : S) (sz : Nat) {a0 : Nat} {a1 : Nat} {Q : Int32 → S → Prop} (hF : P_X14_by g rs a0 a1 ι Q) : CGi l yX14_by cX14_by 4 .int ({ frames := F + 3, cells := 0, slots := 0, locals := L + 64 } : Room) D dA ad g ι sz [pX a0, pX a1] Q := by
  unfold P_X14_by at hF
  refine ph_enter [pX a0, pX a1] (Qc := fun A => va_Qi (GQi g Q) (CB D dA ad A) A) (by decide +kernel) (Nat.le_of_ble_eq_true rfl) ?_
  intro p e s m args below meth c A ls X hP hl hnm
  have hl : LH ad ls 4 [(0, pX a0), (1, pX a1)] := hl
  refine ph_aload_n (n := 0) X hl dX14_by_0 rfl rfl ?_
  obtain ⟨hm1, hF⟩ := hF
  refine cg_getr 11 1 X in_X14 hP hm1 q1429 dX14_by_1 ?_
  refine ph_aload_n (n := 1) X hl dX14_by_4 rfl rfl ?_
  refine cg_by (v := a1) X hP (hrec _ _ _ _ _ hF) hl q1074 (k8 := 0) (cs0 (k := 0)) (by decide) (by constructor <;> (dsimp only) <;> omega) ⟨Nat.le_refl _, Nat.le_refl _⟩ dX14_by_5 (fun r5 ι6 H locs hF hP => ?_)
  refine ph_istore_n X hl dX14_by_8 rfl (by decide) rfl (fun ls hl => ?_)
  refine ph_aload_n (n := 1) X hl dX14_by_9 rfl rfl ?_
  refine cg_getr 11 2 X in_X14 hP hm1 q1430 dX14_by_10 ?_
  refine ph_aload_n (n := 2) X hl dX14_by_13 rfl rfl ?_
  refine cg_by (v := a1) X hP (hrec _ _ _ _ _ hF) hl q1074 (k8 := 0) (cs0 (k := 0)) (by decide) (by constructor <;> (dsimp only) <;> omega) ⟨Nat.le_refl _, Nat.le_refl _⟩ dX14_by_14 (fun r10 ι11 H locs hF hP => ?_)
  refine ph_istore_n X hl dX14_by_17 rfl (by decide) rfl (fun ls hl => ?_)
  refine ph_aload_n (n := 2) X hl dX14_by_18 rfl rfl ?_
  refine cg_geti 11 0 X in_X14 hP hm1 q1428 dX14_by_19 ?_
  rcases ts_cases (ι11 a0 0) 38 24 with ⟨j9, hs12⟩ | hs12
  · obtain ⟨hj9, hs12⟩ := hs12
    rcases ts_lt24 hj9 with rfl | rfl | rfl | rfl | rfl | rfl | rfl | rfl | rfl | rfl | rfl | rfl | rfl | rfl | rfl | rfl | rfl | rfl | rfl | rfl | rfl | rfl | rfl | rfl
    · have hx9 : ι11 a0 0 = 38 := hs12.trans (by decide)
      have hF := hF.1 hx9
      refine lv_tableIn (tgt := 178) (off := 156) X.1 X.2.1 dX14_by_22 (by rw [hx9]; decide) (by rw [hx9]; decide) (by rw [hx9]; decide) (by decide) ?_
      refine ph_iload_n (n := 1) X hl dX14_by_178 rfl rfl ?_
      refine lv_if_eq (tgt := 190) X.1 X.2.1 dX14_by_179 (by decide) (fun c14 => ?_) (fun c14 => ?_)
      · have hF := hF.1 c14
        refine lv_iconst (v := 0) X.1 X.2.1 dX14_by_190 (by decide) ?_
        exact cg_iret X hP hF dX14_by_191
      · have hF := hF.2 c14
        refine ph_iload_n (n := 0) X hl dX14_by_182 rfl rfl ?_
        refine lv_if_eq (tgt := 190) X.1 X.2.1 dX14_by_183 (by decide) (fun c13 => ?_) (fun c13 => ?_)
        · have hF := hF.1 c13
          refine lv_iconst (v := 0) X.1 X.2.1 dX14_by_190 (by decide) ?_
          exact cg_iret X hP hF dX14_by_191
        · have hF := hF.2 c13
          refine lv_iconst (v := 1) X.1 X.2.1 dX14_by_186 (by decide) ?_
          refine lv_goto (tgt := 191) X.1 X.2.1 dX14_by_187 (by decide) ?_
          exact cg_iret X hP hF dX14_by_191
    · have hx9 : ι11 a0 0 = 39 := hs12.trans (by decide)
      have hF := hF.2.1 hx9
      refine lv_tableIn (tgt := 192) (off := 170) X.1 X.2.1 dX14_by_22 (by rw [hx9]; decide) (by rw [hx9]; decide) (by rw [hx9]; decide) (by decide) ?_
      refine ph_iload_n (n := 1) X hl dX14_by_192 rfl rfl ?_
      refine lv_if_ne (tgt := 200) X.1 X.2.1 dX14_by_193 (by decide) (fun c16 => ?_) (fun c16 => ?_)
      · have hF := hF.1 c16
        exact w_X14_by_200 X hrec _ _ _ _ hF hP (lh_sub hl [] rfl)
      · have hF := hF.2 c16
        refine ph_iload_n (n := 0) X hl dX14_by_196 rfl rfl ?_
        refine lv_if_eq (tgt := 204) X.1 X.2.1 dX14_by_197 (by decide) (fun c15 => ?_) (fun c15 => ?_)
        · have hF := hF.1 c15
          refine lv_iconst (v := 0) X.1 X.2.1 dX14_by_204 (by decide) ?_
          exact cg_iret X hP hF dX14_by_205
        · have hF := hF.2 c15
          exact w_X14_by_200 X hrec _ _ _ _ hF hP (lh_sub hl [] rfl)
    · have hx9 : ι11 a0 0 = 40 := hs12.trans (by decide)
      have hF := hF.2.2.1 hx9
      refine lv_tableIn (tgt := 192) (off := 170) X.1 X.2.1 dX14_by_22 (by rw [hx9]; decide) (by rw [hx9]; decide) (by rw [hx9]; decide) (by decide) ?_
      refine ph_iload_n (n := 1) X hl dX14_by_192 rfl rfl ?_
      refine lv_if_ne (tgt := 200) X.1 X.2.1 dX14_by_193 (by decide) (fun c18 => ?_) (fun c18 => ?_)
      · have hF := hF.1 c18
        exact w_X14_by_200 X hrec _ _ _ _ hF hP (lh_sub hl [] rfl)
      · have hF := hF.2 c18
        refine ph_iload_n (n := 0) X hl dX14_by_196 rfl rfl ?_
        refine lv_if_eq (tgt := 204) X.1 X.2.1 dX14_by_197 (by decide) (fun c17 => ?_) (fun c17 => ?_)
        · have hF := hF.1 c17
          refine lv_iconst (v := 0) X.1 X.2.1 dX14_by_204 (by decide) ?_
          exact cg_iret X hP hF dX14_by_205
        · have hF := hF.2 c17
          exact w_X14_by_200 X hrec _ _ _ _ hF hP (lh_sub hl [] rfl)
    · have hx9 : ι11 a0 0 = 41 := hs12.trans (by decide)
      have hF := hF.2.2.2.1 hx9
      refine lv_tableIn (tgt := 192) (off := 170) X.1 X.2.1 dX14_by_22 (by rw [hx9]; decide) (by rw [hx9]; decide) (by rw [hx9]; decide) (by decide) ?_
      refine ph_iload_n (n := 1) X hl dX14_by_192 rfl rfl ?_
      refine lv_if_ne (tgt := 200) X.1 X.2.1 dX14_by_193 (by decide) (fun c20 => ?_) (fun c20 => ?_)
      · have hF := hF.1 c20
        exact w_X14_by_200 X hrec _ _ _ _ hF hP (lh_sub hl [] rfl)
      · have hF := hF.2 c20
        refine ph_iload_n (n := 0) X hl dX14_by_196 rfl rfl ?_
        refine lv_if_eq (tgt := 204) X.1 X.2.1 dX14_by_197 (by decide) (fun c19 => ?_) (fun c19 => ?_)
        · have hF := hF.1 c19
          refine lv_iconst (v := 0) X.1 X.2.1 dX14_by_204 (by decide) ?_
          exact cg_iret X hP hF dX14_by_205
        · have hF := hF.2 c19
          exact w_X14_by_200 X hrec _ _ _ _ hF hP (lh_sub hl [] rfl)
    · have hx9 : ι11 a0 0 = 42 := hs12.trans (by decide)
      have hF := hF.2.2.2.2.1 hx9
      refine lv_tableIn (tgt := 140) (off := 118) X.1 X.2.1 dX14_by_22 (by rw [hx9]; decide) (by rw [hx9]; decide) (by rw [hx9]; decide) (by decide) ?_
      refine ph_iload_n (n := 1) X hl dX14_by_140 rfl rfl ?_
      refine ph_iload_n (n := 0) X hl dX14_by_141 rfl rfl ?_
      refine lv_imul X.1 X.2.1 dX14_by_142 ?_
      exact cg_iret X hP hF dX14_by_143
    · have hx9 : ι11 a0 0 = 43 := hs12.trans (by decide)
      have hF := hF.2.2.2.2.2.1 hx9
      refine lv_tableIn (tgt := 132) (off := 110) X.1 X.2.1 dX14_by_22 (by rw [hx9]; decide) (by rw [hx9]; decide) (by rw [hx9]; decide) (by decide) ?_
      refine ph_iload_n (n := 1) X hl dX14_by_132 rfl rfl ?_
      refine ph_iload_n (n := 0) X hl dX14_by_133 rfl rfl ?_
      refine lv_iadd X.1 X.2.1 dX14_by_134 ?_
      exact cg_iret X hP hF dX14_by_135
    · have hx9 : ι11 a0 0 = 44 := hs12.trans (by decide)
      have hF := hF.2.2.2.2.2.2.1 hx9
      refine lv_tableIn (tgt := 192) (off := 170) X.1 X.2.1 dX14_by_22 (by rw [hx9]; decide) (by rw [hx9]; decide) (by rw [hx9]; decide) (by decide) ?_
      refine ph_iload_n (n := 1) X hl dX14_by_192 rfl rfl ?_
      refine lv_if_ne (tgt := 200) X.1 X.2.1 dX14_by_193 (by decide) (fun c22 => ?_) (fun c22 => ?_)
      · have hF := hF.1 c22
        exact w_X14_by_200 X hrec _ _ _ _ hF hP (lh_sub hl [] rfl)
      · have hF := hF.2 c22
        refine ph_iload_n (n := 0) X hl dX14_by_196 rfl rfl ?_
        refine lv_if_eq (tgt := 204) X.1 X.2.1 dX14_by_197 (by decide) (fun c21 => ?_) (fun c21 => ?_)
        · have hF := hF.1 c21
          refine lv_iconst (v := 0) X.1 X.2.1 dX14_by_204 (by decide) ?_
          exact cg_iret X hP hF dX14_by_205
        · have hF := hF.2 c21
          exact w_X14_by_200 X hrec _ _ _ _ hF hP (lh_sub hl [] rfl)
    · have hx9 : ι11 a0 0 = 45 := hs12.trans (by decide)
      have hF := hF.2.2.2.2.2.2.2.1 hx9
      refine lv_tableIn (tgt := 136) (off := 114) X.1 X.2.1 dX14_by_22 (by rw [hx9]; decide) (by rw [hx9]; decide) (by rw [hx9]; decide) (by decide) ?_
      refine ph_iload_n (n := 1) X hl dX14_by_136 rfl rfl ?_
      refine ph_iload_n (n := 0) X hl dX14_by_137 rfl rfl ?_
      refine lv_isub X.1 X.2.1 dX14_by_138 ?_
      exact cg_iret X hP hF dX14_by_139
    · have hx9 : ι11 a0 0 = 46 := hs12.trans (by decide)
      have hF := hF.2.2.2.2.2.2.2.2.1 hx9
      refine lv_tableIn (tgt := 192) (off := 170) X.1 X.2.1 dX14_by_22 (by rw [hx9]; decide) (by rw [hx9]; decide) (by rw [hx9]; decide) (by decide) ?_
      refine ph_iload_n (n := 1) X hl dX14_by_192 rfl rfl ?_
      refine lv_if_ne (tgt := 200) X.1 X.2.1 dX14_by_193 (by decide) (fun c24 => ?_) (fun c24 => ?_)
      · have hF := hF.1 c24
        exact w_X14_by_200 X hrec _ _ _ _ hF hP (lh_sub hl [] rfl)
      · have hF := hF.2 c24
        refine ph_iload_n (n := 0) X hl dX14_by_196 rfl rfl ?_
        refine lv_if_eq (tgt := 204) X.1 X.2.1 dX14_by_197 (by decide) (fun c23 => ?_) (fun c23 => ?_)
        · have hF := hF.1 c23
          refine lv_iconst (v := 0) X.1 X.2.1 dX14_by_204 (by decide) ?_
          exact cg_iret X hP hF dX14_by_205
        · have hF := hF.2 c23
          exact w_X14_by_200 X hrec _ _ _ _ hF hP (lh_sub hl [] rfl)
    · have hx9 : ι11 a0 0 = 47 := hs12.trans (by decide)
      have hF := hF.2.2.2.2.2.2.2.2.2.1 hx9
      refine lv_tableIn (tgt := 144) (off := 122) X.1 X.2.1 dX14_by_22 (by rw [hx9]; decide) (by rw [hx9]; decide) (by rw [hx9]; decide) (by decide) ?_
      refine ph_iload_n (n := 0) X hl dX14_by_144 rfl rfl ?_
      refine lv_if_ne (tgt := 152) X.1 X.2.1 dX14_by_145 (by decide) (fun c26 => ?_) (fun c26 => ?_)
      · have hF := hF.1 c26
        refine ph_iload_n (n := 1) X hl dX14_by_152 rfl rfl ?_
        refine ph_iload_n (n := 0) X hl dX14_by_153 rfl rfl ?_
        obtain ⟨hz25, hF⟩ := hF
        refine lv_idiv X.1 X.2.1 dX14_by_154 hz25 ?_
        exact cg_iret X hP hF dX14_by_155
      · have hF := hF.2 c26
        refine lv_iconst (v := 0) X.1 X.2.1 dX14_by_148 (by decide) ?_
        refine lv_goto (tgt := 155) X.1 X.2.1 dX14_by_149 (by decide) ?_
        exact cg_iret X hP hF dX14_by_155
    · have hx9 : ι11 a0 0 = 48 := hs12.trans (by decide)
      have hF := hF.2.2.2.2.2.2.2.2.2.2.1 hx9
      refine lv_tableIn (tgt := 192) (off := 170) X.1 X.2.1 dX14_by_22 (by rw [hx9]; decide) (by rw [hx9]; decide) (by rw [hx9]; decide) (by decide) ?_
      refine ph_iload_n (n := 1) X hl dX14_by_192 rfl rfl ?_
      refine lv_if_ne (tgt := 200) X.1 X.2.1 dX14_by_193 (by decide) (fun c28 => ?_) (fun c28 => ?_)
      · have hF := hF.1 c28
        exact w_X14_by_200 X hrec _ _ _ _ hF hP (lh_sub hl [] rfl)
      · have hF := hF.2 c28
        refine ph_iload_n (n := 0) X hl dX14_by_196 rfl rfl ?_
        refine lv_if_eq (tgt := 204) X.1 X.2.1 dX14_by_197 (by decide) (fun c27 => ?_) (fun c27 => ?_)
        · have hF := hF.1 c27
          refine lv_iconst (v := 0) X.1 X.2.1 dX14_by_204 (by decide) ?_
          exact cg_iret X hP hF dX14_by_205
        · have hF := hF.2 c27
          exact w_X14_by_200 X hrec _ _ _ _ hF hP (lh_sub hl [] rfl)
    · have hx9 : ι11 a0 0 = 49 := hs12.trans (by decide)
      have hF := hF.2.2.2.2.2.2.2.2.2.2.2.1 hx9
      refine lv_tableIn (tgt := 192) (off := 170) X.1 X.2.1 dX14_by_22 (by rw [hx9]; decide) (by rw [hx9]; decide) (by rw [hx9]; decide) (by decide) ?_
      refine ph_iload_n (n := 1) X hl dX14_by_192 rfl rfl ?_
      refine lv_if_ne (tgt := 200) X.1 X.2.1 dX14_by_193 (by decide) (fun c30 => ?_) (fun c30 => ?_)
      · have hF := hF.1 c30
        exact w_X14_by_200 X hrec _ _ _ _ hF hP (lh_sub hl [] rfl)
      · have hF := hF.2 c30
        refine ph_iload_n (n := 0) X hl dX14_by_196 rfl rfl ?_
        refine lv_if_eq (tgt := 204) X.1 X.2.1 dX14_by_197 (by decide) (fun c29 => ?_) (fun c29 => ?_)
        · have hF := hF.1 c29
          refine lv_iconst (v := 0) X.1 X.2.1 dX14_by_204 (by decide) ?_
          exact cg_iret X hP hF dX14_by_205
        · have hF := hF.2 c29
          exact w_X14_by_200 X hrec _ _ _ _ hF hP (lh_sub hl [] rfl)
    · have hx9 : ι11 a0 0 = 50 := hs12.trans (by decide)
      have hF := hF.2.2.2.2.2.2.2.2.2.2.2.2.1 hx9
      refine lv_tableIn (tgt := 192) (off := 170) X.1 X.2.1 dX14_by_22 (by rw [hx9]; decide) (by rw [hx9]; decide) (by rw [hx9]; decide) (by decide) ?_
      refine ph_iload_n (n := 1) X hl dX14_by_192 rfl rfl ?_
      refine lv_if_ne (tgt := 200) X.1 X.2.1 dX14_by_193 (by decide) (fun c32 => ?_) (fun c32 => ?_)
      · have hF := hF.1 c32
        exact w_X14_by_200 X hrec _ _ _ _ hF hP (lh_sub hl [] rfl)
      · have hF := hF.2 c32
        refine ph_iload_n (n := 0) X hl dX14_by_196 rfl rfl ?_
        refine lv_if_eq (tgt := 204) X.1 X.2.1 dX14_by_197 (by decide) (fun c31 => ?_) (fun c31 => ?_)
        · have hF := hF.1 c31
          refine lv_iconst (v := 0) X.1 X.2.1 dX14_by_204 (by decide) ?_
          exact cg_iret X hP hF dX14_by_205
        · have hF := hF.2 c31
          exact w_X14_by_200 X hrec _ _ _ _ hF hP (lh_sub hl [] rfl)
    · have hx9 : ι11 a0 0 = 51 := hs12.trans (by decide)
      have hF := hF.2.2.2.2.2.2.2.2.2.2.2.2.2.1 hx9
      refine lv_tableIn (tgt := 192) (off := 170) X.1 X.2.1 dX14_by_22 (by rw [hx9]; decide) (by rw [hx9]; decide) (by rw [hx9]; decide) (by decide) ?_
      refine ph_iload_n (n := 1) X hl dX14_by_192 rfl rfl ?_
      refine lv_if_ne (tgt := 200) X.1 X.2.1 dX14_by_193 (by decide) (fun c34 => ?_) (fun c34 => ?_)
      · have hF := hF.1 c34
        exact w_X14_by_200 X hrec _ _ _ _ hF hP (lh_sub hl [] rfl)
      · have hF := hF.2 c34
        refine ph_iload_n (n := 0) X hl dX14_by_196 rfl rfl ?_
        refine lv_if_eq (tgt := 204) X.1 X.2.1 dX14_by_197 (by decide) (fun c33 => ?_) (fun c33 => ?_)
        · have hF := hF.1 c33
          refine lv_iconst (v := 0) X.1 X.2.1 dX14_by_204 (by decide) ?_
          exact cg_iret X hP hF dX14_by_205
        · have hF := hF.2 c33
          exact w_X14_by_200 X hrec _ _ _ _ hF hP (lh_sub hl [] rfl)
    · have hx9 : ι11 a0 0 = 52 := hs12.trans (by decide)
      have hF := hF.2.2.2.2.2.2.2.2.2.2.2.2.2.2.1 hx9
      refine lv_tableIn (tgt := 192) (off := 170) X.1 X.2.1 dX14_by_22 (by rw [hx9]; decide) (by rw [hx9]; decide) (by rw [hx9]; decide) (by decide) ?_
      refine ph_iload_n (n := 1) X hl dX14_by_192 rfl rfl ?_
      refine lv_if_ne (tgt := 200) X.1 X.2.1 dX14_by_193 (by decide) (fun c36 => ?_) (fun c36 => ?_)
      · have hF := hF.1 c36
        exact w_X14_by_200 X hrec _ _ _ _ hF hP (lh_sub hl [] rfl)
      · have hF := hF.2 c36
        refine ph_iload_n (n := 0) X hl dX14_by_196 rfl rfl ?_
        refine lv_if_eq (tgt := 204) X.1 X.2.1 dX14_by_197 (by decide) (fun c35 => ?_) (fun c35 => ?_)
        · have hF := hF.1 c35
          refine lv_iconst (v := 0) X.1 X.2.1 dX14_by_204 (by decide) ?_
          exact cg_iret X hP hF dX14_by_205
        · have hF := hF.2 c35
          exact w_X14_by_200 X hrec _ _ _ _ hF hP (lh_sub hl [] rfl)
    · have hx9 : ι11 a0 0 = 53 := hs12.trans (by decide)
      have hF := hF.2.2.2.2.2.2.2.2.2.2.2.2.2.2.2.1 hx9
      refine lv_tableIn (tgt := 192) (off := 170) X.1 X.2.1 dX14_by_22 (by rw [hx9]; decide) (by rw [hx9]; decide) (by rw [hx9]; decide) (by decide) ?_
      refine ph_iload_n (n := 1) X hl dX14_by_192 rfl rfl ?_
      refine lv_if_ne (tgt := 200) X.1 X.2.1 dX14_by_193 (by decide) (fun c38 => ?_) (fun c38 => ?_)
      · have hF := hF.1 c38
        exact w_X14_by_200 X hrec _ _ _ _ hF hP (lh_sub hl [] rfl)
      · have hF := hF.2 c38
        refine ph_iload_n (n := 0) X hl dX14_by_196 rfl rfl ?_
        refine lv_if_eq (tgt := 204) X.1 X.2.1 dX14_by_197 (by decide) (fun c37 => ?_) (fun c37 => ?_)
        · have hF := hF.1 c37
          refine lv_iconst (v := 0) X.1 X.2.1 dX14_by_204 (by decide) ?_
          exact cg_iret X hP hF dX14_by_205
        · have hF := hF.2 c37
          exact w_X14_by_200 X hrec _ _ _ _ hF hP (lh_sub hl [] rfl)
    · have hx9 : ι11 a0 0 = 54 := hs12.trans (by decide)
      have hF := hF.2.2.2.2.2.2.2.2.2.2.2.2.2.2.2.2.1 hx9
      refine lv_tableIn (tgt := 192) (off := 170) X.1 X.2.1 dX14_by_22 (by rw [hx9]; decide) (by rw [hx9]; decide) (by rw [hx9]; decide) (by decide) ?_
      refine ph_iload_n (n := 1) X hl dX14_by_192 rfl rfl ?_
      refine lv_if_ne (tgt := 200) X.1 X.2.1 dX14_by_193 (by decide) (fun c40 => ?_) (fun c40 => ?_)
      · have hF := hF.1 c40
        exact w_X14_by_200 X hrec _ _ _ _ hF hP (lh_sub hl [] rfl)
      · have hF := hF.2 c40
        refine ph_iload_n (n := 0) X hl dX14_by_196 rfl rfl ?_
        refine lv_if_eq (tgt := 204) X.1 X.2.1 dX14_by_197 (by decide) (fun c39 => ?_) (fun c39 => ?_)
        · have hF := hF.1 c39
          refine lv_iconst (v := 0) X.1 X.2.1 dX14_by_204 (by decide) ?_
          exact cg_iret X hP hF dX14_by_205
        · have hF := hF.2 c39
          exact w_X14_by_200 X hrec _ _ _ _ hF hP (lh_sub hl [] rfl)
    · have hx9 : ι11 a0 0 = 55 := hs12.trans (by decide)
      have hF := hF.2.2.2.2.2.2.2.2.2.2.2.2.2.2.2.2.2.1 hx9
      refine lv_tableIn (tgt := 192) (off := 170) X.1 X.2.1 dX14_by_22 (by rw [hx9]; decide) (by rw [hx9]; decide) (by rw [hx9]; decide) (by decide) ?_
      refine ph_iload_n (n := 1) X hl dX14_by_192 rfl rfl ?_
      refine lv_if_ne (tgt := 200) X.1 X.2.1 dX14_by_193 (by decide) (fun c42 => ?_) (fun c42 => ?_)
      · have hF := hF.1 c42
        exact w_X14_by_200 X hrec _ _ _ _ hF hP (lh_sub hl [] rfl)
      · have hF := hF.2 c42
        refine ph_iload_n (n := 0) X hl dX14_by_196 rfl rfl ?_
        refine lv_if_eq (tgt := 204) X.1 X.2.1 dX14_by_197 (by decide) (fun c41 => ?_) (fun c41 => ?_)
        · have hF := hF.1 c41
          refine lv_iconst (v := 0) X.1 X.2.1 dX14_by_204 (by decide) ?_
          exact cg_iret X hP hF dX14_by_205
        · have hF := hF.2 c41
          exact w_X14_by_200 X hrec _ _ _ _ hF hP (lh_sub hl [] rfl)
    · have hx9 : ι11 a0 0 = 56 := hs12.trans (by decide)
      have hF := hF.2.2.2.2.2.2.2.2.2.2.2.2.2.2.2.2.2.2.1 hx9
      refine lv_tableIn (tgt := 192) (off := 170) X.1 X.2.1 dX14_by_22 (by rw [hx9]; decide) (by rw [hx9]; decide) (by rw [hx9]; decide) (by decide) ?_
      refine ph_iload_n (n := 1) X hl dX14_by_192 rfl rfl ?_
      refine lv_if_ne (tgt := 200) X.1 X.2.1 dX14_by_193 (by decide) (fun c44 => ?_) (fun c44 => ?_)
      · have hF := hF.1 c44
        exact w_X14_by_200 X hrec _ _ _ _ hF hP (lh_sub hl [] rfl)
      · have hF := hF.2 c44
        refine ph_iload_n (n := 0) X hl dX14_by_196 rfl rfl ?_
        refine lv_if_eq (tgt := 204) X.1 X.2.1 dX14_by_197 (by decide) (fun c43 => ?_) (fun c43 => ?_)
        · have hF := hF.1 c43
          refine lv_iconst (v := 0) X.1 X.2.1 dX14_by_204 (by decide) ?_
          exact cg_iret X hP hF dX14_by_205
        · have hF := hF.2 c43
          exact w_X14_by_200 X hrec _ _ _ _ hF hP (lh_sub hl [] rfl)
    · have hx9 : ι11 a0 0 = 57 := hs12.trans (by decide)
      have hF := hF.2.2.2.2.2.2.2.2.2.2.2.2.2.2.2.2.2.2.2.1 hx9
      refine lv_tableIn (tgt := 192) (off := 170) X.1 X.2.1 dX14_by_22 (by rw [hx9]; decide) (by rw [hx9]; decide) (by rw [hx9]; decide) (by decide) ?_
      refine ph_iload_n (n := 1) X hl dX14_by_192 rfl rfl ?_
      refine lv_if_ne (tgt := 200) X.1 X.2.1 dX14_by_193 (by decide) (fun c46 => ?_) (fun c46 => ?_)
      · have hF := hF.1 c46
        exact w_X14_by_200 X hrec _ _ _ _ hF hP (lh_sub hl [] rfl)
      · have hF := hF.2 c46
        refine ph_iload_n (n := 0) X hl dX14_by_196 rfl rfl ?_
        refine lv_if_eq (tgt := 204) X.1 X.2.1 dX14_by_197 (by decide) (fun c45 => ?_) (fun c45 => ?_)
        · have hF := hF.1 c45
          refine lv_iconst (v := 0) X.1 X.2.1 dX14_by_204 (by decide) ?_
          exact cg_iret X hP hF dX14_by_205
        · have hF := hF.2 c45
          exact w_X14_by_200 X hrec _ _ _ _ hF hP (lh_sub hl [] rfl)
    · have hx9 : ι11 a0 0 = 58 := hs12.trans (by decide)
      have hF := hF.2.2.2.2.2.2.2.2.2.2.2.2.2.2.2.2.2.2.2.2.1 hx9
      refine lv_tableIn (tgt := 192) (off := 170) X.1 X.2.1 dX14_by_22 (by rw [hx9]; decide) (by rw [hx9]; decide) (by rw [hx9]; decide) (by decide) ?_
      refine ph_iload_n (n := 1) X hl dX14_by_192 rfl rfl ?_
      refine lv_if_ne (tgt := 200) X.1 X.2.1 dX14_by_193 (by decide) (fun c48 => ?_) (fun c48 => ?_)
      · have hF := hF.1 c48
        exact w_X14_by_200 X hrec _ _ _ _ hF hP (lh_sub hl [] rfl)
      · have hF := hF.2 c48
        refine ph_iload_n (n := 0) X hl dX14_by_196 rfl rfl ?_
        refine lv_if_eq (tgt := 204) X.1 X.2.1 dX14_by_197 (by decide) (fun c47 => ?_) (fun c47 => ?_)
        · have hF := hF.1 c47
          refine lv_iconst (v := 0) X.1 X.2.1 dX14_by_204 (by decide) ?_
          exact cg_iret X hP hF dX14_by_205
        · have hF := hF.2 c47
          exact w_X14_by_200 X hrec _ _ _ _ hF hP (lh_sub hl [] rfl)
    · have hx9 : ι11 a0 0 = 59 := hs12.trans (by decide)
      have hF := hF.2.2.2.2.2.2.2.2.2.2.2.2.2.2.2.2.2.2.2.2.2.1 hx9
      refine lv_tableIn (tgt := 192) (off := 170) X.1 X.2.1 dX14_by_22 (by rw [hx9]; decide) (by rw [hx9]; decide) (by rw [hx9]; decide) (by decide) ?_
      refine ph_iload_n (n := 1) X hl dX14_by_192 rfl rfl ?_
      refine lv_if_ne (tgt := 200) X.1 X.2.1 dX14_by_193 (by decide) (fun c50 => ?_) (fun c50 => ?_)
      · have hF := hF.1 c50
        exact w_X14_by_200 X hrec _ _ _ _ hF hP (lh_sub hl [] rfl)
      · have hF := hF.2 c50
        refine ph_iload_n (n := 0) X hl dX14_by_196 rfl rfl ?_
        refine lv_if_eq (tgt := 204) X.1 X.2.1 dX14_by_197 (by decide) (fun c49 => ?_) (fun c49 => ?_)
        · have hF := hF.1 c49
          refine lv_iconst (v := 0) X.1 X.2.1 dX14_by_204 (by decide) ?_
          exact cg_iret X hP hF dX14_by_205
        · have hF := hF.2 c49
          exact w_X14_by_200 X hrec _ _ _ _ hF hP (lh_sub hl [] rfl)
    · have hx9 : ι11 a0 0 = 60 := hs12.trans (by decide)
      have hF := hF.2.2.2.2.2.2.2.2.2.2.2.2.2.2.2.2.2.2.2.2.2.2.1 hx9
      refine lv_tableIn (tgt := 156) (off := 134) X.1 X.2.1 dX14_by_22 (by rw [hx9]; decide) (by rw [hx9]; decide) (by rw [hx9]; decide) (by decide) ?_
      refine ph_iload_n (n := 1) X hl dX14_by_156 rfl rfl ?_
      refine ph_iload_n (n := 0) X hl dX14_by_157 rfl rfl ?_
      refine lv_icmp_ge (tgt := 165) X.1 X.2.1 dX14_by_158 (by decide) (fun c51 => ?_) (fun c51 => ?_)
      · have hF := hF.1 c51
        refine lv_iconst (v := 0) X.1 X.2.1 dX14_by_165 (by decide) ?_
        exact cg_iret X hP hF dX14_by_166
      · have hF := hF.2 c51
        refine lv_iconst (v := 1) X.1 X.2.1 dX14_by_161 (by decide) ?_
        refine lv_goto (tgt := 166) X.1 X.2.1 dX14_by_162 (by decide) ?_
        exact cg_iret X hP hF dX14_by_166
    · have hx9 : ι11 a0 0 = 61 := hs12.trans (by decide)
      have hF := hF.2.2.2.2.2.2.2.2.2.2.2.2.2.2.2.2.2.2.2.2.2.2.2.1 hx9
      refine lv_tableIn (tgt := 167) (off := 145) X.1 X.2.1 dX14_by_22 (by rw [hx9]; decide) (by rw [hx9]; decide) (by rw [hx9]; decide) (by decide) ?_
      refine ph_iload_n (n := 1) X hl dX14_by_167 rfl rfl ?_
      refine ph_iload_n (n := 0) X hl dX14_by_168 rfl rfl ?_
      refine lv_icmp_ne (tgt := 176) X.1 X.2.1 dX14_by_169 (by decide) (fun c52 => ?_) (fun c52 => ?_)
      · have hF := hF.1 c52
        refine lv_iconst (v := 0) X.1 X.2.1 dX14_by_176 (by decide) ?_
        exact cg_iret X hP hF dX14_by_177
      · have hF := hF.2 c52
        refine lv_iconst (v := 1) X.1 X.2.1 dX14_by_172 (by decide) ?_
        refine lv_goto (tgt := 177) X.1 X.2.1 dX14_by_173 (by decide) ?_
        exact cg_iret X hP hF dX14_by_177
  · have hs12 : (ι11 a0 0).toInt < 38 ∨ 61 < (ι11 a0 0).toInt := by omega
    have hF := hF.2.2.2.2.2.2.2.2.2.2.2.2.2.2.2.2.2.2.2.2.2.2.2.2 hs12
    refine lv_tableOut (tgt := 192) X.1 X.2.1 dX14_by_22 hs12 (by decide) ?_
    refine ph_iload_n (n := 1) X hl dX14_by_192 rfl rfl ?_
    refine lv_if_ne (tgt := 200) X.1 X.2.1 dX14_by_193 (by decide) (fun c54 => ?_) (fun c54 => ?_)
    · have hF := hF.1 c54
      exact w_X14_by_200 X hrec _ _ _ _ hF hP (lh_sub hl [] rfl)
    · have hF := hF.2 c54
      refine ph_iload_n (n := 0) X hl dX14_by_196 rfl rfl ?_
      refine lv_if_eq (tgt := 204) X.1 X.2.1 dX14_by_197 (by decide) (fun c53 => ?_) (fun c53 => ?_)
      · have hF := hF.1 c53
        refine lv_iconst (v := 0) X.1 X.2.1 dX14_by_204 (by decide) ?_
        exact cg_iret X hP hF dX14_by_205
      · have hF := hF.2 c53
        exact w_X14_by_200 X hrec _ _ _ _ hF hP (lh_sub hl [] rfl)
def P_X15_by (g : GT) (rs : Nat → Nat → S → (Int32 → S → Prop) → Prop) (a0 : Nat) (a1 : Nat) (ι : S) (Q : Int32 → S → Prop) : Prop := (gK g a0 = 13 ∧ (rs (gR g a0 0) a1 ι (fun r5 ι6 => ((¬ r5 = 0 → (Q 0 ι6)) ∧ (r5 = 0 → (Q 1 ι6))))))
set_option maxHeartbeats 2000000 in
theorem met_X15_by {rs : Nat → Nat → S → (Int32 → S → Prop) → Prop} {F L : Nat} (l : Launch) (D : va_G) (dA : Nat → ClassId) (ad : Nat → Nat) (g : GT) (hrec : ∀ (ι : S) (sz : Nat) (a0 a1 : Nat) (Q : Int32 → S → Prop), rs a0 a1 ι Q → BYC l D dA ad g F L ι sz a0 a1 Q) (ι : S) (sz : Nat) {a0 : Nat} {a1 : Nat} {Q : Int32 → S → Prop} (hF : P_X15_by g rs a0 a1 ι Q) : CGi l yX15_by cX15_by 2 .int ({ frames := F + 3, cells := 0, slots := 0, locals := L + 64 } : Room) D dA ad g ι sz [pX a0, pX a1] Q := by
  unfold P_X15_by at hF
  refine ph_enter [pX a0, pX a1] (Qc := fun A => va_Qi (GQi g Q) (CB D dA ad A) A) (by decide +kernel) (Nat.le_of_ble_eq_true rfl) ?_
  intro p e s m args below meth c A ls X hP hl hnm
  have hl : LH ad ls 2 [(0, pX a0), (1, pX a1)] := hl
  refine ph_aload_n (n := 0) X hl dX15_by_0 rfl rfl ?_
  obtain ⟨hm1, hF⟩ := hF
  refine cg_getr 12 0 X in_X15 hP hm1 q1448 dX15_by_1 ?_
  refine ph_aload_n (n := 1) X hl dX15_by_4 rfl rfl ?_
  refine cg_by (v := a1) X hP (hrec _ _ _ _ _ hF) hl q1077 (k8 := 0) (cs0 (k := 0)) (by decide) (by constructor <;> (dsimp only) <;> omega) ⟨Nat.le_refl _, Nat.le_refl _⟩ dX15_by_5 (fun r5 ι6 H locs hF hP => ?_)
  refine lv_if_ne (tgt := 15) X.1 X.2.1 dX15_by_8 (by decide) (fun c7 => ?_) (fun c7 => ?_)
  · have hF := hF.1 c7
    refine lv_iconst (v := 0) X.1 X.2.1 dX15_by_15 (by decide) ?_
    exact cg_iret X hP hF dX15_by_16
  · have hF := hF.2 c7
    refine lv_iconst (v := 1) X.1 X.2.1 dX15_by_11 (by decide) ?_
    refine lv_goto (tgt := 16) X.1 X.2.1 dX15_by_12 (by decide) ?_
    exact cg_iret X hP hF dX15_by_16
def P_byR (g : GT) : Nat → Nat → Nat → S → (Int32 → S → Prop) → Prop
  | 0, _, _, _, _ => False
  | d + 1, p, v, ι, Q => (gK g p = 10 ∧ P_X12_by g p v ι Q) ∨ (gK g p = 11 ∧ P_X13_by g p v ι Q) ∨ (gK g p = 12 ∧ P_X14_by g (P_byR g d) p v ι Q) ∨ (gK g p = 13 ∧ P_X15_by g (P_byR g d) p v ι Q)
theorem met_byR (l : Launch) (D : va_G) (dA : Nat → ClassId) (ad : Nat → Nat) (g : GT) : ∀ (d : Nat) (ι : S) (sz : Nat) (p v : Nat) (Q : Int32 → S → Prop), P_byR g d p v ι Q → BYC l D dA ad g (3 * d) (64 * d) ι sz p v Q := by
  intro d
  induction d with
  | zero =>
    intro ι sz p v Q hF
    exact hF.elim
  | succ d ih =>
    intro ι sz p v Q hF
    rcases hF with ⟨h, hF⟩ | ⟨h, hF⟩ | ⟨h, hF⟩ | ⟨h, hF⟩
    · exact Or.inl ⟨h, met_X12_by l D dA ad g _ _ hF⟩
    · exact Or.inr (Or.inl ⟨h, met_X13_by l D dA ad g _ _ hF⟩)
    · exact Or.inr (Or.inr (Or.inl ⟨h, met_X14_by (rs := P_byR g d) (F := 3 * d) (L := 64 * d) l D dA ad g ih _ _ hF⟩))
    · exact Or.inr (Or.inr (Or.inr ⟨h, met_X15_by (rs := P_byR g d) (F := 3 * d) (L := 64 * d) l D dA ad g ih _ _ hF⟩))
def P_X6_placeOf_2 (g : GT) (Q : Int32 → S → Prop) : Nat → Nat → Int32 → Int32 → S → Prop
  | 0, _, _, _, _ => False
  | n + 1, x0, x1, x2, ι => (gK g x0 = 6 ∧ (((ι x0 2) ≤ x2 → (Q (-1) ι)) ∧ (¬ (ι x0 2) ≤ x2 → (gK g (gR g x0 0) = 100 ∧ (vp_in x2 (gL g (gR g x0 0)) ∧ ((¬ (ι (gR g x0 0) x2.toNatClampNeg) = x1 → (P_X6_placeOf_2 g Q  n x0 x1 (x2 + 1) ι)) ∧ ((ι (gR g x0 0) x2.toNatClampNeg) = x1 → (Q x2 ι))))))))
def P_X6_placeOf (g : GT) (a0 : Nat) (a1 : Int32) (ι : S) (Q : Int32 → S → Prop) : Prop := (∃ n9, P_X6_placeOf_2 g Q n9 a0 a1 0 ι)
set_option maxHeartbeats 2000000 in
theorem w_X6_placeOf_2 (X : CX p s m args c meth cX6_placeOf 3 (some .int) RX6 D dA ad A) {Q : Int32 → S → Prop} : ∀ (n : Nat) (x0 : Nat) (x1 : Int32) (x2 : Int32) (ι : S) (H : Heap) (locs : List Loc) (ls : Array Slot), P_X6_placeOf_2 g Q n x0 x1 x2 ι → PW D dA A s.heap ad (HS g ι) H locs → LH ad ls 3 [(0, pX x0), (1, iX x1), (2, iX x2)] → WGi p l e ({ frames := 0, cells := 0, slots := 0, locals := 0 } : Room) s m args below meth c D dA ad A g Q H locs (F0 m 2 ls []) := by
  intro n
  induction n with
  | zero =>
    intro x0 x1 x2 ι H locs ls hF
    exact hF.elim
  | succ n ih =>
    intro x0 x1 x2 ι H locs ls hF hP hl
    rw [P_X6_placeOf_2] at hF
    refine ph_iload_n (n := 2) X hl dX6_placeOf_2 rfl rfl ?_
    refine ph_aload_n (n := 0) X hl dX6_placeOf_3 rfl rfl ?_
    obtain ⟨hm1, hF⟩ := hF
    refine cg_geti 5 2 X in_X6 hP hm1 q586 dX6_placeOf_4 ?_
    refine lv_icmp_ge (tgt := 28) X.1 X.2.1 dX6_placeOf_7 (by decide) (fun c5 => ?_) (fun c5 => ?_)
    · have hF := hF.1 c5
      refine lv_iconst (v := (-1)) X.1 X.2.1 dX6_placeOf_28 (by decide) ?_
      exact cg_iret X hP hF dX6_placeOf_29
    · have hF := hF.2 c5
      refine ph_aload_n (n := 0) X hl dX6_placeOf_10 rfl rfl ?_
      refine cg_getr 5 0 X in_X6 hP hm1 q580 dX6_placeOf_11 ?_
      refine ph_iload_n (n := 2) X hl dX6_placeOf_14 rfl rfl ?_
      obtain ⟨hm2, hF⟩ := hF
      obtain ⟨hr3, hF⟩ := hF
      refine cg_iald X hP hm2 hr3 (k := x2.toNatClampNeg) rfl dX6_placeOf_15 ?_
      refine ph_iload_n (n := 1) X hl dX6_placeOf_16 rfl rfl ?_
      refine lv_icmp_ne (tgt := 22) X.1 X.2.1 dX6_placeOf_17 (by decide) (fun c4 => ?_) (fun c4 => ?_)
      · have hF := hF.1 c4
        refine ph_iinc (v := x2 + 1) (k := 2) X hl dX6_placeOf_22 rfl rfl (by decide) rfl (fun ls hl => ?_)
        refine lv_goto (tgt := 2) X.1 X.2.1 dX6_placeOf_25 (by decide) ?_
        exact ih _ _ _ _ _ _ _ hF hP (lh_sub hl [1, 2, 0] rfl)
      · have hF := hF.2 c4
        refine ph_iload_n (n := 2) X hl dX6_placeOf_20 rfl rfl ?_
        exact cg_iret X hP hF dX6_placeOf_21
set_option maxHeartbeats 2000000 in
theorem met_X6_placeOf (l : Launch) (D : va_G) (dA : Nat → ClassId) (ad : Nat → Nat) (g : GT) (ι : S) (sz : Nat) {a0 : Nat} {a1 : Int32} {Q : Int32 → S → Prop} (hF : P_X6_placeOf g a0 a1 ι Q) : CGi l yX6_placeOf cX6_placeOf 3 .int ({ frames := 0, cells := 0, slots := 0, locals := 0 } : Room) D dA ad g ι sz [pX a0, iX a1] Q := by
  unfold P_X6_placeOf at hF
  refine ph_enter [pX a0, iX a1] (Qc := fun A => va_Qi (GQi g Q) (CB D dA ad A) A) (by decide +kernel) (Nat.le_of_ble_eq_true rfl) ?_
  intro p e s m args below meth c A ls X hP hl hnm
  have hl : LH ad ls 3 [(0, pX a0), (1, iX a1)] := hl
  refine lv_iconst (v := 0) X.1 X.2.1 dX6_placeOf_0 (by decide) ?_
  refine ph_istore_n X hl dX6_placeOf_1 rfl (by decide) rfl (fun ls hl => ?_)
  obtain ⟨n9, hF⟩ := hF
  exact w_X6_placeOf_2 X n9 _ _ _ _ _ _ _ hF hP (lh_sub hl [1, 2, 0] rfl)
def P_X6_isApart_23 (g : GT) (Q : Int32 → S → Prop)  (ι : S) : Prop := (Q 1 ι)
def P_X6_isApart (g : GT) (a0 : Nat) (a1 : Int32) (ι : S) (Q : Int32 → S → Prop) : Prop := ((a1 = 0 → (P_X6_isApart_23 g Q ι)) ∧ (¬ a1 = 0 → (gK g a0 = 6 ∧ ((¬ (ι a0 7) = 0 → (P_X6_isApart_23 g Q ι)) ∧ ((ι a0 7) = 0 → ((¬ (((ι a0 6) >>> ((a1 : Int32) &&& 31)) &&& 1) = 1 → (Q 0 ι)) ∧ ((((ι a0 6) >>> ((a1 : Int32) &&& 31)) &&& 1) = 1 → (P_X6_isApart_23 g Q ι))))))))
set_option maxHeartbeats 2000000 in
theorem w_X6_isApart_23 (X : CX p s m args c meth cX6_isApart 2 (some .boolean) RX6 D dA ad A) {Q : Int32 → S → Prop} : ∀  (ι : S) (H : Heap) (locs : List Loc) (ls : Array Slot), P_X6_isApart_23 g Q  ι → PW D dA A s.heap ad (HS g ι) H locs → LH ad ls 2 [] → WGi p l e ({ frames := 0, cells := 0, slots := 0, locals := 0 } : Room) s m args below meth c D dA ad A g Q H locs (F0 m 23 ls []) := by
  intro  ι H locs ls hF hP hl
  unfold P_X6_isApart_23 at hF
  refine lv_iconst (v := 1) X.1 X.2.1 dX6_isApart_23 (by decide) ?_
  refine lv_goto (tgt := 28) X.1 X.2.1 dX6_isApart_24 (by decide) ?_
  exact cg_zret X hP isB_1 hF dX6_isApart_28
set_option maxHeartbeats 2000000 in
theorem met_X6_isApart (l : Launch) (D : va_G) (dA : Nat → ClassId) (ad : Nat → Nat) (g : GT) (ι : S) (sz : Nat) {a0 : Nat} {a1 : Int32} {Q : Int32 → S → Prop} (hF : P_X6_isApart g a0 a1 ι Q) : CGi l yX6_isApart cX6_isApart 2 .boolean ({ frames := 0, cells := 0, slots := 0, locals := 0 } : Room) D dA ad g ι sz [pX a0, iX a1] Q := by
  unfold P_X6_isApart at hF
  refine ph_enter [pX a0, iX a1] (Qc := fun A => va_Qi (GQi g Q) (CB D dA ad A) A) (by decide +kernel) (Nat.le_of_ble_eq_true rfl) ?_
  intro p e s m args below meth c A ls X hP hl hnm
  have hl : LH ad ls 2 [(0, pX a0), (1, iX a1)] := hl
  refine ph_iload_n (n := 1) X hl dX6_isApart_0 rfl rfl ?_
  refine lv_if_eq (tgt := 23) X.1 X.2.1 dX6_isApart_1 (by decide) (fun c4 => ?_) (fun c4 => ?_)
  · have hF := hF.1 c4
    exact w_X6_isApart_23 X _ _ _ _ hF hP (lh_sub hl [] rfl)
  · have hF := hF.2 c4
    refine ph_aload_n (n := 0) X hl dX6_isApart_4 rfl rfl ?_
    obtain ⟨hm1, hF⟩ := hF
    refine cg_geti 5 7 X in_X6 hP hm1 q599 dX6_isApart_5 ?_
    refine lv_if_ne (tgt := 23) X.1 X.2.1 dX6_isApart_8 (by decide) (fun c3 => ?_) (fun c3 => ?_)
    · have hF := hF.1 c3
      exact w_X6_isApart_23 X _ _ _ _ hF hP (lh_sub hl [] rfl)
    · have hF := hF.2 c3
      refine ph_aload_n (n := 0) X hl dX6_isApart_11 rfl rfl ?_
      refine cg_geti 5 6 X in_X6 hP hm1 q597 dX6_isApart_12 ?_
      refine ph_iload_n (n := 1) X hl dX6_isApart_15 rfl rfl ?_
      refine lv_ishr X.1 X.2.1 dX6_isApart_16 ?_
      refine lv_iconst (v := 1) X.1 X.2.1 dX6_isApart_17 (by decide) ?_
      refine lv_iand X.1 X.2.1 dX6_isApart_18 ?_
      refine lv_iconst (v := 1) X.1 X.2.1 dX6_isApart_19 (by decide) ?_
      refine lv_icmp_ne (tgt := 27) X.1 X.2.1 dX6_isApart_20 (by decide) (fun c2 => ?_) (fun c2 => ?_)
      · have hF := hF.1 c2
        refine lv_iconst (v := 0) X.1 X.2.1 dX6_isApart_27 (by decide) ?_
        exact cg_zret X hP isB_0 hF dX6_isApart_28
      · have hF := hF.2 c2
        exact w_X6_isApart_23 X _ _ _ _ hF hP (lh_sub hl [] rfl)
def P_X6_swap (g : GT) (a0 : Nat) (a1 : Int32) (a2 : Int32) (ι : S) (Q : S → Prop) : Prop := (gK g a0 = 6 ∧ (gK g (gR g a0 0) = 100 ∧ (vp_in a1 (gL g (gR g a0 0)) ∧ (vp_in a2 (gL g (gR g a0 0)) ∧ (vp_in a1 (gL g (gR g a0 0)) ∧ (∀ ι5, ι5 = up2 ι (gR g a0 0) a1.toNatClampNeg (ι (gR g a0 0) a2.toNatClampNeg) → (vp_in a2 (gL g (gR g a0 0)) ∧ (∀ ι7, ι7 = up2 ι5 (gR g a0 0) a2.toNatClampNeg (ι (gR g a0 0) a1.toNatClampNeg) → (Q ι7)))))))))
set_option maxHeartbeats 2000000 in
theorem met_X6_swap (l : Launch) (D : va_G) (dA : Nat → ClassId) (ad : Nat → Nat) (g : GT) (ι : S) (sz : Nat) {a0 : Nat} {a1 : Int32} {a2 : Int32} {Q : S → Prop} (hF : P_X6_swap g a0 a1 a2 ι Q) : CGv l yX6_swap cX6_swap 4 ({ frames := 0, cells := 0, slots := 0, locals := 0 } : Room) D dA ad g ι sz [pX a0, iX a1, iX a2] Q := by
  unfold P_X6_swap at hF
  refine ph_enter [pX a0, iX a1, iX a2] (Qc := fun A => va_Qv (GQv g Q) (CB D dA ad A) A) (by decide +kernel) (Nat.le_of_ble_eq_true rfl) ?_
  intro p e s m args below meth c A ls X hP hl hnm
  have hl : LH ad ls 4 [(0, pX a0), (1, iX a1), (2, iX a2)] := hl
  refine ph_aload_n (n := 0) X hl dX6_swap_0 rfl rfl ?_
  obtain ⟨hm1, hF⟩ := hF
  refine cg_getr 5 0 X in_X6 hP hm1 q580 dX6_swap_1 ?_
  refine ph_iload_n (n := 1) X hl dX6_swap_4 rfl rfl ?_
  obtain ⟨hm2, hF⟩ := hF
  obtain ⟨hr3, hF⟩ := hF
  refine cg_iald X hP hm2 hr3 (k := a1.toNatClampNeg) rfl dX6_swap_5 ?_
  refine ph_istore_n X hl dX6_swap_6 rfl (by decide) rfl (fun ls hl => ?_)
  refine ph_aload_n (n := 1) X hl dX6_swap_7 rfl rfl ?_
  refine cg_getr 5 0 X in_X6 hP hm1 q580 dX6_swap_8 ?_
  refine ph_iload_n (n := 2) X hl dX6_swap_11 rfl rfl ?_
  refine ph_aload_n (n := 1) X hl dX6_swap_12 rfl rfl ?_
  refine cg_getr 5 0 X in_X6 hP hm1 q580 dX6_swap_13 ?_
  refine ph_iload_n (n := 3) X hl dX6_swap_16 rfl rfl ?_
  obtain ⟨hr4, hF⟩ := hF
  refine cg_iald X hP hm2 hr4 (k := a2.toNatClampNeg) rfl dX6_swap_17 ?_
  obtain ⟨hr6, hF⟩ := hF
  refine cg_iast X hP hm2 hr6 (k := a1.toNatClampNeg) rfl dX6_swap_18 hF (fun H locs ι5 hP hF => ?_)
  refine ph_aload_n (n := 1) X hl dX6_swap_19 rfl rfl ?_
  refine cg_getr 5 0 X in_X6 hP hm1 q580 dX6_swap_20 ?_
  refine ph_iload_n (n := 3) X hl dX6_swap_23 rfl rfl ?_
  refine ph_iload_n (n := 0) X hl dX6_swap_24 rfl rfl ?_
  obtain ⟨hr8, hF⟩ := hF
  refine cg_iast X hP hm2 hr8 (k := a2.toNatClampNeg) rfl dX6_swap_25 hF (fun H locs ι7 hP hF => ?_)
  exact cg_vret X hP hF dX6_swap_26
def P_X6_goesRound_7 (g : GT) (Q : S → Prop) : Nat → Nat → Int32 → S → Prop
  | 0, _, _, _ => False
  | n + 1, x0, x1, ι => ((x1 ≤ 0 → (Q ι)) ∧ (¬ x1 ≤ 0 → (gK g x0 = 6 ∧ (P_X6_swap g x0 x1 (x1 - 1) ι (fun ι2 => (P_X6_goesRound_7 g Q  n x0 (x1 + (-1)) ι2))))))
def P_X6_goesRound (g : GT) (a0 : Nat) (ι : S) (Q : S → Prop) : Prop := (gK g a0 = 6 ∧ (∃ n9, P_X6_goesRound_7 g Q n9 a0 ((ι a0 2) - 1) ι))
set_option maxHeartbeats 2000000 in
theorem w_X6_goesRound_7 (X : CX p s m args c meth cX6_goesRound 2 none RX6 D dA ad A) {Q : S → Prop} : ∀ (n : Nat) (x0 : Nat) (x1 : Int32) (ι : S) (H : Heap) (locs : List Loc) (ls : Array Slot), P_X6_goesRound_7 g Q n x0 x1 ι → PW D dA A s.heap ad (HS g ι) H locs → LH ad ls 2 [(0, pX x0), (1, iX x1)] → WGv p l e ({ frames := 1, cells := 0, slots := 0, locals := 23 } : Room) s m args below meth c D dA ad A g Q H locs (F0 m 7 ls []) := by
  intro n
  induction n with
  | zero =>
    intro x0 x1 ι H locs ls hF
    exact hF.elim
  | succ n ih =>
    intro x0 x1 ι H locs ls hF hP hl
    rw [P_X6_goesRound_7] at hF
    refine ph_iload_n (n := 1) X hl dX6_goesRound_7 rfl rfl ?_
    refine lv_if_le (tgt := 25) X.1 X.2.1 dX6_goesRound_8 (by decide) (fun c5 => ?_) (fun c5 => ?_)
    · have hF := hF.1 c5
      exact cg_vret X hP hF dX6_goesRound_25
    · have hF := hF.2 c5
      refine ph_aload_n (n := 0) X hl dX6_goesRound_11 rfl rfl ?_
      refine ph_iload_n (n := 1) X hl dX6_goesRound_12 rfl rfl ?_
      refine ph_iload_n (n := 1) X hl dX6_goesRound_13 rfl rfl ?_
      refine lv_iconst (v := 1) X.1 X.2.1 dX6_goesRound_14 (by decide) ?_
      refine lv_isub X.1 X.2.1 dX6_goesRound_15 ?_
      obtain ⟨hm4, hF⟩ := hF
      refine cg_callVv 5 [iX x1, iX (x1 - 1)] X hP hm4 (met_X6_swap l D dA ad g _ _ hF) (cwV 2 X.2.2.2.2.1 (lw_V q1702 q912 q913 q123 q914) rfl rfl rfl (by decide +kernel) ⟨Nat.le_of_ble_eq_true rfl, Nat.le_of_ble_eq_true rfl⟩) rfl hl (k8 := 0) (cs0 (k := 0)) (by decide) ⟨Nat.le_refl _, Nat.le_refl _⟩ dX6_goesRound_16 rfl (fun ι2 H locs hF hP => ?_)
      refine ph_iinc (v := x1 + (-1)) (k := 1) X hl dX6_goesRound_19 rfl rfl (by decide) rfl (fun ls hl => ?_)
      refine lv_goto (tgt := 7) X.1 X.2.1 dX6_goesRound_22 (by decide) ?_
      exact ih _ _ _ _ _ _ hF hP (lh_sub hl [1, 0] rfl)
set_option maxHeartbeats 2000000 in
theorem met_X6_goesRound (l : Launch) (D : va_G) (dA : Nat → ClassId) (ad : Nat → Nat) (g : GT) (ι : S) (sz : Nat) {a0 : Nat} {Q : S → Prop} (hF : P_X6_goesRound g a0 ι Q) : CGv l yX6_goesRound cX6_goesRound 2 ({ frames := 1, cells := 0, slots := 0, locals := 23 } : Room) D dA ad g ι sz [pX a0] Q := by
  unfold P_X6_goesRound at hF
  refine ph_enter [pX a0] (Qc := fun A => va_Qv (GQv g Q) (CB D dA ad A) A) (by decide +kernel) (Nat.le_of_ble_eq_true rfl) ?_
  intro p e s m args below meth c A ls X hP hl hnm
  have hl : LH ad ls 2 [(0, pX a0)] := hl
  refine ph_aload_n (n := 0) X hl dX6_goesRound_0 rfl rfl ?_
  obtain ⟨hm6, hF⟩ := hF
  refine cg_geti 5 2 X in_X6 hP hm6 q586 dX6_goesRound_1 ?_
  refine lv_iconst (v := 1) X.1 X.2.1 dX6_goesRound_4 (by decide) ?_
  refine lv_isub X.1 X.2.1 dX6_goesRound_5 ?_
  refine ph_istore_n X hl dX6_goesRound_6 rfl (by decide) rfl (fun ls hl => ?_)
  obtain ⟨n9, hF⟩ := hF
  exact w_X6_goesRound_7 X n9 _ _ _ _ _ _ hF hP (lh_sub hl [1, 0] rfl)
def P_X6_leaves_2 (g : GT) (Q : S → Prop) : Nat → Nat → Int32 → S → Prop
  | 0, _, _, _ => False
  | n + 1, x0, x2, ι => (gK g x0 = 6 ∧ (((ι x0 2) ≤ (x2 + 1) → (∀ ι2, ι2 = up2 ι x0 2 ((ι x0 2) - 1) → (Q ι2))) ∧ (¬ (ι x0 2) ≤ (x2 + 1) → (gK g (gR g x0 0) = 100 ∧ (vp_in (x2 + 1) (gL g (gR g x0 0)) ∧ (vp_in x2 (gL g (gR g x0 0)) ∧ (∀ ι5, ι5 = up2 ι (gR g x0 0) x2.toNatClampNeg (ι (gR g x0 0) ((x2 + 1).toNatClampNeg)) → (P_X6_leaves_2 g Q  n x0 (x2 + 1) ι5))))))))
def P_X6_leaves (g : GT) (a0 : Nat) (a1 : Int32) (ι : S) (Q : S → Prop) : Prop := (∃ n9, P_X6_leaves_2 g Q n9 a0 a1 ι)
set_option maxHeartbeats 2000000 in
theorem w_X6_leaves_2 (X : CX p s m args c meth cX6_leaves 3 none RX6 D dA ad A) {Q : S → Prop} : ∀ (n : Nat) (x0 : Nat) (x2 : Int32) (ι : S) (H : Heap) (locs : List Loc) (ls : Array Slot), P_X6_leaves_2 g Q n x0 x2 ι → PW D dA A s.heap ad (HS g ι) H locs → LH ad ls 3 [(0, pX x0), (2, iX x2)] → WGv p l e ({ frames := 0, cells := 0, slots := 0, locals := 0 } : Room) s m args below meth c D dA ad A g Q H locs (F0 m 2 ls []) := by
  intro n
  induction n with
  | zero =>
    intro x0 x2 ι H locs ls hF
    exact hF.elim
  | succ n ih =>
    intro x0 x2 ι H locs ls hF hP hl
    rw [P_X6_leaves_2] at hF
    refine ph_iload_n (n := 1) X hl dX6_leaves_2 rfl rfl ?_
    refine lv_iconst (v := 1) X.1 X.2.1 dX6_leaves_3 (by decide) ?_
    refine lv_iadd X.1 X.2.1 dX6_leaves_4 ?_
    refine ph_aload_n (n := 0) X hl dX6_leaves_5 rfl rfl ?_
    obtain ⟨hm1, hF⟩ := hF
    refine cg_geti 5 2 X in_X6 hP hm1 q586 dX6_leaves_6 ?_
    refine lv_icmp_ge (tgt := 32) X.1 X.2.1 dX6_leaves_9 (by decide) (fun c7 => ?_) (fun c7 => ?_)
    · have hF := hF.1 c7
      refine ph_aload_n (n := 0) X hl dX6_leaves_32 rfl rfl ?_
      refine ph_dup_r X dX6_leaves_33 ?_
      refine cg_geti 5 2 X in_X6 hP hm1 q586 dX6_leaves_34 ?_
      refine lv_iconst (v := 1) X.1 X.2.1 dX6_leaves_37 (by decide) ?_
      refine lv_isub X.1 X.2.1 dX6_leaves_38 ?_
      refine cg_puti 5 2 X in_X6 tyX6 tyX6_ok nmX6 hP hm1 q586 dX6_leaves_39 hF (fun H locs ι2 hP hF => ?_)
      exact cg_vret X hP hF dX6_leaves_42
    · have hF := hF.2 c7
      refine ph_aload_n (n := 0) X hl dX6_leaves_12 rfl rfl ?_
      refine cg_getr 5 0 X in_X6 hP hm1 q580 dX6_leaves_13 ?_
      refine ph_iload_n (n := 1) X hl dX6_leaves_16 rfl rfl ?_
      refine ph_aload_n (n := 0) X hl dX6_leaves_17 rfl rfl ?_
      refine cg_getr 5 0 X in_X6 hP hm1 q580 dX6_leaves_18 ?_
      refine ph_iload_n (n := 1) X hl dX6_leaves_21 rfl rfl ?_
      refine lv_iconst (v := 1) X.1 X.2.1 dX6_leaves_22 (by decide) ?_
      refine lv_iadd X.1 X.2.1 dX6_leaves_23 ?_
      obtain ⟨hm3, hF⟩ := hF
      obtain ⟨hr4, hF⟩ := hF
      refine cg_iald X hP hm3 hr4 (k := (x2 + 1).toNatClampNeg) rfl dX6_leaves_24 ?_
      obtain ⟨hr6, hF⟩ := hF
      refine cg_iast X hP hm3 hr6 (k := x2.toNatClampNeg) rfl dX6_leaves_25 hF (fun H locs ι5 hP hF => ?_)
      refine ph_iinc (v := x2 + 1) (k := 1) X hl dX6_leaves_26 rfl rfl (by decide) rfl (fun ls hl => ?_)
      refine lv_goto (tgt := 2) X.1 X.2.1 dX6_leaves_29 (by decide) ?_
      exact ih _ _ _ _ _ _ hF hP (lh_sub hl [1, 0] rfl)
set_option maxHeartbeats 2000000 in
theorem met_X6_leaves (l : Launch) (D : va_G) (dA : Nat → ClassId) (ad : Nat → Nat) (g : GT) (ι : S) (sz : Nat) {a0 : Nat} {a1 : Int32} {Q : S → Prop} (hF : P_X6_leaves g a0 a1 ι Q) : CGv l yX6_leaves cX6_leaves 3 ({ frames := 0, cells := 0, slots := 0, locals := 0 } : Room) D dA ad g ι sz [pX a0, iX a1] Q := by
  unfold P_X6_leaves at hF
  refine ph_enter [pX a0, iX a1] (Qc := fun A => va_Qv (GQv g Q) (CB D dA ad A) A) (by decide +kernel) (Nat.le_of_ble_eq_true rfl) ?_
  intro p e s m args below meth c A ls X hP hl hnm
  have hl : LH ad ls 3 [(0, pX a0), (1, iX a1)] := hl
  refine ph_iload_n (n := 1) X hl dX6_leaves_0 rfl rfl ?_
  refine ph_istore_n X hl dX6_leaves_1 rfl (by decide) rfl (fun ls hl => ?_)
  obtain ⟨n9, hF⟩ := hF
  exact w_X6_leaves_2 X n9 _ _ _ _ _ _ hF hP (lh_sub hl [1, 0] rfl)
def P_X6_like (g : GT) (a0 : Nat) (a1 : Nat) (ι : S) (Q : S → Prop) : Prop := (gK g a1 = 6 ∧ (gK g a0 = 6 ∧ (gK g (gR g a1 0) = 100 ∧ (gK g (gR g a0 0) = 100 ∧ (7 ≤ gL g (gR g a1 0) ∧ (7 ≤ gL g (gR g a0 0) ∧ (∀ ι7, ι7 = va_up ι (gR g a0 0) (va_cpy (ι (gR g a1 0)) (ι (gR g a0 0)) 0 0 7) → (gK g (gR g a1 1) = 100 ∧ (gK g (gR g a0 1) = 100 ∧ (7 ≤ gL g (gR g a1 1) ∧ (7 ≤ gL g (gR g a0 1) ∧ (∀ ι12, ι12 = va_up ι7 (gR g a0 1) (va_cpy (ι7 (gR g a1 1)) (ι7 (gR g a0 1)) 0 0 7) → (∀ ι13, ι13 = up2 ι12 a0 2 (ι12 a1 2) → (∀ ι14, ι14 = up2 ι13 a0 3 (ι13 a1 3) → (∀ ι15, ι15 = up2 ι14 a0 4 (ι14 a1 4) → (∀ ι16, ι16 = up2 ι15 a0 5 (ι15 a1 5) → (∀ ι17, ι17 = up2 ι16 a0 6 (ι16 a1 6) → (isB (ι17 a1 7) ∧ (∀ ι18, ι18 = up2 ι17 a0 7 (ι17 a1 7) → (Q ι18))))))))))))))))))))
set_option maxHeartbeats 2000000 in
theorem met_X6_like (l : Launch) (D : va_G) (dA : Nat → ClassId) (ad : Nat → Nat) (g : GT) (ι : S) (sz : Nat) {a0 : Nat} {a1 : Nat} {Q : S → Prop} (hF : P_X6_like g a0 a1 ι Q) : CGv l yX6_like cX6_like 2 ({ frames := 1, cells := 0, slots := 0, locals := 60 } : Room) D dA ad g ι sz [pX a0, pX a1] Q := by
  unfold P_X6_like at hF
  refine ph_enter [pX a0, pX a1] (Qc := fun A => va_Qv (GQv g Q) (CB D dA ad A) A) (by decide +kernel) (Nat.le_of_ble_eq_true rfl) ?_
  intro p e s m args below meth c A ls X hP hl hnm
  have hl : LH ad ls 2 [(0, pX a0), (1, pX a1)] := hl
  refine ph_aload_n (n := 1) X hl dX6_like_0 rfl rfl ?_
  obtain ⟨hm1, hF⟩ := hF
  refine cg_getr 5 0 X in_X6 hP hm1 q580 dX6_like_1 ?_
  refine lv_iconst (v := 0) X.1 X.2.1 dX6_like_4 (by decide) ?_
  refine ph_aload_n (n := 0) X hl dX6_like_5 rfl rfl ?_
  obtain ⟨hm2, hF⟩ := hF
  refine cg_getr 5 0 X in_X6 hP hm2 q580 dX6_like_6 ?_
  refine lv_iconst (v := 0) X.1 X.2.1 dX6_like_9 (by decide) ?_
  refine lv_bipush (v := 7) X.1 X.2.1 dX6_like_10 (by decide) ?_
  obtain ⟨hm3, hF⟩ := hF
  obtain ⟨hm4, hF⟩ := hF
  obtain ⟨hr5, hF⟩ := hF
  obtain ⟨hr6, hF⟩ := hF
  refine cg_copyi (a := 0) (b := 0) (k := 7) X hP hl q910 q289 q288 q114 hm3 hm4 (by decide) (by decide) (by decide) (by decide) (by decide) (by decide) hr5 hr6 (Nat.le_of_ble_eq_true rfl) (Nat.le_trans (Nat.add_le_add_right (cs0 (k := 0)) _) (by decide +kernel)) dX6_like_12 hF (fun H locs ι7 hP hF => ?_)
  refine ph_aload_n (n := 1) X hl dX6_like_15 rfl rfl ?_
  refine cg_getr 5 1 X in_X6 hP hm1 q583 dX6_like_16 ?_
  refine lv_iconst (v := 0) X.1 X.2.1 dX6_like_19 (by decide) ?_
  refine ph_aload_n (n := 0) X hl dX6_like_20 rfl rfl ?_
  refine cg_getr 5 1 X in_X6 hP hm2 q583 dX6_like_21 ?_
  refine lv_iconst (v := 0) X.1 X.2.1 dX6_like_24 (by decide) ?_
  refine lv_bipush (v := 7) X.1 X.2.1 dX6_like_25 (by decide) ?_
  obtain ⟨hm8, hF⟩ := hF
  obtain ⟨hm9, hF⟩ := hF
  obtain ⟨hr10, hF⟩ := hF
  obtain ⟨hr11, hF⟩ := hF
  refine cg_copyi (a := 0) (b := 0) (k := 7) X hP hl q910 q289 q288 q114 hm8 hm9 (by decide) (by decide) (by decide) (by decide) (by decide) (by decide) hr10 hr11 (Nat.le_of_ble_eq_true rfl) (Nat.le_trans (Nat.add_le_add_right (cs0 (k := 0)) _) (by decide +kernel)) dX6_like_27 hF (fun H locs ι12 hP hF => ?_)
  refine ph_aload_n (n := 0) X hl dX6_like_30 rfl rfl ?_
  refine ph_aload_n (n := 1) X hl dX6_like_31 rfl rfl ?_
  refine cg_geti 5 2 X in_X6 hP hm1 q586 dX6_like_32 ?_
  refine cg_puti 5 2 X in_X6 tyX6 tyX6_ok nmX6 hP hm2 q586 dX6_like_35 hF (fun H locs ι13 hP hF => ?_)
  refine ph_aload_n (n := 0) X hl dX6_like_38 rfl rfl ?_
  refine ph_aload_n (n := 1) X hl dX6_like_39 rfl rfl ?_
  refine cg_geti 5 3 X in_X6 hP hm1 q588 dX6_like_40 ?_
  refine cg_puti 5 3 X in_X6 tyX6 tyX6_ok nmX6 hP hm2 q588 dX6_like_43 hF (fun H locs ι14 hP hF => ?_)
  refine ph_aload_n (n := 0) X hl dX6_like_46 rfl rfl ?_
  refine ph_aload_n (n := 1) X hl dX6_like_47 rfl rfl ?_
  refine cg_geti 5 4 X in_X6 hP hm1 q591 dX6_like_48 ?_
  refine cg_puti 5 4 X in_X6 tyX6 tyX6_ok nmX6 hP hm2 q591 dX6_like_51 hF (fun H locs ι15 hP hF => ?_)
  refine ph_aload_n (n := 0) X hl dX6_like_54 rfl rfl ?_
  refine ph_aload_n (n := 1) X hl dX6_like_55 rfl rfl ?_
  refine cg_geti 5 5 X in_X6 hP hm1 q594 dX6_like_56 ?_
  refine cg_puti 5 5 X in_X6 tyX6 tyX6_ok nmX6 hP hm2 q594 dX6_like_59 hF (fun H locs ι16 hP hF => ?_)
  refine ph_aload_n (n := 0) X hl dX6_like_62 rfl rfl ?_
  refine ph_aload_n (n := 1) X hl dX6_like_63 rfl rfl ?_
  refine cg_geti 5 6 X in_X6 hP hm1 q597 dX6_like_64 ?_
  refine cg_puti 5 6 X in_X6 tyX6 tyX6_ok nmX6 hP hm2 q597 dX6_like_67 hF (fun H locs ι17 hP hF => ?_)
  refine ph_aload_n (n := 0) X hl dX6_like_70 rfl rfl ?_
  refine ph_aload_n (n := 1) X hl dX6_like_71 rfl rfl ?_
  refine cg_geti 5 7 X in_X6 hP hm1 q599 dX6_like_72 ?_
  obtain ⟨hb19, hF⟩ := hF
  refine cg_putz 5 7 X in_X6 tyX6 tyX6_ok nmX6 hP hm2 q599 dX6_like_75 hb19 hF (fun H locs ι18 hP hF => ?_)
  exact cg_vret X hP hF dX6_like_78
def P_X3_sees (g : GT) (a0 : Nat) (a1 : Nat) (a2 : Int32) (ι : S) (Q : S → Prop) : Prop := (gK g a0 = 4 ∧ ((105 ≤ a1 ∧ a1 < 112) ∧ (gK g (gR g a0 0) = 100 ∧ (vp_in (nI (a1 - 105)) (gL g (gR g a0 0)) ∧ (∀ ι7, ι7 = up2 ι (gR g a0 0) ((nI (a1 - 105)).toNatClampNeg) a2 → (Q ι7))))))
set_option maxHeartbeats 2000000 in
theorem met_X3_sees (l : Launch) (D : va_G) (dA : Nat → ClassId) (ad : Nat → Nat) (g : GT) (ι : S) (sz : Nat) {a0 : Nat} {a1 : Nat} {a2 : Int32} {Q : S → Prop} (hF : P_X3_sees g a0 a1 a2 ι Q) : CGv l yX3_sees cX3_sees 3 ({ frames := 2, cells := 0, slots := 0, locals := 40 } : Room) D dA ad g ι sz [pX a0, pX a1, iX a2] Q := by
  unfold P_X3_sees at hF
  refine ph_enter [pX a0, pX a1, iX a2] (Qc := fun A => va_Qv (GQv g Q) (CB D dA ad A) A) (by decide +kernel) (Nat.le_of_ble_eq_true rfl) ?_
  intro p e s m args below meth c A ls X hP hl hnm
  have hl : LH ad ls 3 [(0, pX a0), (1, pX a1), (2, iX a2)] := hl
  refine ph_aload_n (n := 0) X hl dX3_sees_0 rfl rfl ?_
  obtain ⟨hm1, hF⟩ := hF
  refine cg_getr 3 0 X in_X3 hP hm1 q511 dX3_sees_1 ?_
  refine ph_aload_n (n := 1) X hl dX3_sees_4 rfl rfl ?_
  obtain ⟨hm5, hF⟩ := hF
  refine cg_ordinal X hP hl hm5 q1034 (k8 := 1) (csr (cs0 (k := 0))) (by decide) ⟨Nat.le_of_ble_eq_true rfl, Nat.le_of_ble_eq_true rfl⟩ ⟨Nat.le_refl _, Nat.le_refl _⟩ dX3_sees_5 (fun H locs hP => ?_)
  refine ph_iload_n (n := 2) X hl dX3_sees_8 rfl rfl ?_
  obtain ⟨hm6, hF⟩ := hF
  obtain ⟨hr8, hF⟩ := hF
  refine cg_iast X hP hm6 hr8 (k := (nI (a1 - 105)).toNatClampNeg) rfl dX3_sees_9 hF (fun H locs ι7 hP hF => ?_)
  exact cg_vret X hP hF dX3_sees_10
def P_X2_isFree_7 (g : GT) (Q : Int32 → S → Prop) : Nat → Nat → Int32 → Int32 → Int32 → S → Prop
  | 0, _, _, _, _, _ => False
  | n + 1, x0, x1, x2, x3, ι => (gK g x0 = 3 ∧ (gK g (gR g x0 6) = 18 ∧ (P_J2_size g (gR g x0 6) ι (fun r2 ι3 => ((r2 ≤ x3 → (((ι3 x0 0) < x2 → (Q 0 ι3)) ∧ (¬ (ι3 x0 0) < x2 → (Q 1 ι3)))) ∧ (¬ r2 ≤ x3 → ((x3 = x1 → (P_X2_isFree_7 g Q  n x0 x1 x2 (x3 + 1) ι3)) ∧ (¬ x3 = x1 → (P_J2_get g (gR g x0 6) x3 ι3 (fun r7 ι8 => (isSl (gK g r7) ∧ (P_X2_isFree_7 g Q  n x0 x1 (x2 + (ι8 r7 3)) (x3 + 1) ι8))))))))))))
def P_X2_isFree (g : GT) (a0 : Nat) (a1 : Int32) (ι : S) (Q : Int32 → S → Prop) : Prop := (gK g a0 = 3 ∧ (∃ n9, P_X2_isFree_7 g Q n9 a0 a1 (ι a0 1) 0 ι))
set_option maxHeartbeats 2000000 in
theorem w_X2_isFree_7 (X : CX p s m args c meth cX2_isFree 4 (some .boolean) RX2 D dA ad A) {Q : Int32 → S → Prop} : ∀ (n : Nat) (x0 : Nat) (x1 : Int32) (x2 : Int32) (x3 : Int32) (ι : S) (H : Heap) (locs : List Loc) (ls : Array Slot), P_X2_isFree_7 g Q n x0 x1 x2 x3 ι → PW D dA A s.heap ad (HS g ι) H locs → LH ad ls 4 [(0, pX x0), (1, iX x1), (2, iX x2), (3, iX x3)] → WGi p l e ({ frames := 3, cells := 0, slots := 0, locals := 64 } : Room) s m args below meth c D dA ad A g Q H locs (F0 m 7 ls []) := by
  intro n
  induction n with
  | zero =>
    intro x0 x1 x2 x3 ι H locs ls hF
    exact hF.elim
  | succ n ih =>
    intro x0 x1 x2 x3 ι H locs ls hF hP hl
    rw [P_X2_isFree_7] at hF
    refine ph_iload_n (n := 3) X hl dX2_isFree_7 rfl rfl ?_
    refine ph_aload_n (n := 0) X hl dX2_isFree_8 rfl rfl ?_
    obtain ⟨hm1, hF⟩ := hF
    refine cg_getr 2 6 X in_X2 hP hm1 q535 dX2_isFree_9 ?_
    obtain ⟨hm5, hF⟩ := hF
    refine cg_callVi 17 [] X hP hm5 (met_J2_size l D dA ad g _ _ hF) (cwV 0 X.2.2.2.2.1 (lw_V q796 q774 q775 q102 q776) rfl rfl rfl (by decide +kernel) ⟨Nat.le_of_ble_eq_true rfl, Nat.le_of_ble_eq_true rfl⟩) rfl hl (k8 := 1) (csi (cs0 (k := 0))) (by decide) ⟨Nat.le_refl _, Nat.le_refl _⟩ dX2_isFree_12 rfl (fun r2 ι3 H locs hF hP => ?_)
    refine lv_icmp_ge (tgt := 46) X.1 X.2.1 dX2_isFree_15 (by decide) (fun c12 => ?_) (fun c12 => ?_)
    · have hF := hF.1 c12
      refine ph_aload_n (n := 0) X hl dX2_isFree_46 rfl rfl ?_
      refine cg_geti 2 0 X in_X2 hP hm1 q517 dX2_isFree_47 ?_
      refine ph_iload_n (n := 2) X hl dX2_isFree_50 rfl rfl ?_
      refine lv_icmp_lt (tgt := 58) X.1 X.2.1 dX2_isFree_51 (by decide) (fun c6 => ?_) (fun c6 => ?_)
      · have hF := hF.1 c6
        refine lv_iconst (v := 0) X.1 X.2.1 dX2_isFree_58 (by decide) ?_
        exact cg_zret X hP isB_0 hF dX2_isFree_59
      · have hF := hF.2 c6
        refine lv_iconst (v := 1) X.1 X.2.1 dX2_isFree_54 (by decide) ?_
        refine lv_goto (tgt := 59) X.1 X.2.1 dX2_isFree_55 (by decide) ?_
        exact cg_zret X hP isB_1 hF dX2_isFree_59
    · have hF := hF.2 c12
      refine ph_iload_n (n := 3) X hl dX2_isFree_18 rfl rfl ?_
      refine ph_iload_n (n := 1) X hl dX2_isFree_19 rfl rfl ?_
      refine lv_icmp_eq (tgt := 40) X.1 X.2.1 dX2_isFree_20 (by decide) (fun c11 => ?_) (fun c11 => ?_)
      · have hF := hF.1 c11
        refine ph_iinc (v := x3 + 1) (k := 3) X hl dX2_isFree_40 rfl rfl (by decide) rfl (fun ls hl => ?_)
        refine lv_goto (tgt := 7) X.1 X.2.1 dX2_isFree_43 (by decide) ?_
        exact ih _ _ _ _ _ _ _ _ hF hP (lh_sub hl [1, 2, 3, 0] rfl)
      · have hF := hF.2 c11
        refine ph_iload_n (n := 2) X hl dX2_isFree_23 rfl rfl ?_
        refine ph_aload_n (n := 0) X hl dX2_isFree_24 rfl rfl ?_
        refine cg_getr 2 6 X in_X2 hP hm1 q535 dX2_isFree_25 ?_
        refine ph_iload_n (n := 3) X hl dX2_isFree_28 rfl rfl ?_
        refine cg_callVq 17 [iX x3] X hP hm5 (met_J2_get l D dA ad g _ _ hF) (cwV 1 X.2.2.2.2.1 (lw_V q797 q778 q779 q102 q780) rfl rfl rfl (by decide +kernel) ⟨Nat.le_of_ble_eq_true rfl, Nat.le_of_ble_eq_true rfl⟩) rfl hl (k8 := 1) (csi (cs0 (k := 0))) (by decide) ⟨Nat.le_refl _, Nat.le_refl _⟩ dX2_isFree_29 rfl (fun r7 ι8 H locs hF hv9 hP => ?_)
        obtain ⟨hm10, hF⟩ := hF
        refine cg_castSl X hP hm10 q798 dX2_isFree_32 ?_
        refine cg_getSl 3 X hP hm10 q1497 dX2_isFree_35 ?_
        refine lv_iadd X.1 X.2.1 dX2_isFree_38 ?_
        refine ph_istore_n X hl dX2_isFree_39 rfl (by decide) rfl (fun ls hl => ?_)
        refine ph_iinc (v := x3 + 1) (k := 3) X hl dX2_isFree_40 rfl rfl (by decide) rfl (fun ls hl => ?_)
        refine lv_goto (tgt := 7) X.1 X.2.1 dX2_isFree_43 (by decide) ?_
        exact ih _ _ _ _ _ _ _ _ hF hP (lh_sub hl [2, 3, 1, 0] rfl)
set_option maxHeartbeats 2000000 in
theorem met_X2_isFree (l : Launch) (D : va_G) (dA : Nat → ClassId) (ad : Nat → Nat) (g : GT) (ι : S) (sz : Nat) {a0 : Nat} {a1 : Int32} {Q : Int32 → S → Prop} (hF : P_X2_isFree g a0 a1 ι Q) : CGi l yX2_isFree cX2_isFree 4 .boolean ({ frames := 3, cells := 0, slots := 0, locals := 64 } : Room) D dA ad g ι sz [pX a0, iX a1] Q := by
  unfold P_X2_isFree at hF
  refine ph_enter [pX a0, iX a1] (Qc := fun A => va_Qi (GQi g Q) (CB D dA ad A) A) (by decide +kernel) (Nat.le_of_ble_eq_true rfl) ?_
  intro p e s m args below meth c A ls X hP hl hnm
  have hl : LH ad ls 4 [(0, pX a0), (1, iX a1)] := hl
  refine ph_aload_n (n := 0) X hl dX2_isFree_0 rfl rfl ?_
  obtain ⟨hm13, hF⟩ := hF
  refine cg_geti 2 1 X in_X2 hP hm13 q520 dX2_isFree_1 ?_
  refine ph_istore_n X hl dX2_isFree_4 rfl (by decide) rfl (fun ls hl => ?_)
  refine lv_iconst (v := 0) X.1 X.2.1 dX2_isFree_5 (by decide) ?_
  refine ph_istore_n X hl dX2_isFree_6 rfl (by decide) rfl (fun ls hl => ?_)
  obtain ⟨n9, hF⟩ := hF
  exact w_X2_isFree_7 X n9 _ _ _ _ _ _ _ _ hF hP (lh_sub hl [2, 3, 1, 0] rfl)
def P_X6_begins_13 (g : GT) (Q : S → Prop) : Nat → Nat → Nat → Int32 → S → Prop
  | 0, _, _, _, _ => False
  | n + 1, x0, x1, x2, ι => (gK g x0 = 6 ∧ (((ι x0 2) ≤ x2 → (∀ ι2, ι2 = up2 ι x0 3 0 → (∀ ι3, ι3 = up2 ι2 x0 4 (-1) → (∀ ι4, ι4 = up2 ι3 x0 5 0 → (gK g x1 = 3 ∧ (∀ ι6, ι6 = up2 ι4 x0 6 (ι4 x1 4) → (P_X2_isFree g x1 (-1) ι6 (fun r7 ι8 => (isB r7 ∧ (∀ ι10, ι10 = up2 ι8 x0 7 r7 → (Q ι10))))))))))) ∧ (¬ (ι x0 2) ≤ x2 → (gK g (gR g x0 0) = 100 ∧ (vp_in x2 (gL g (gR g x0 0)) ∧ (∀ ι13, ι13 = up2 ι (gR g x0 0) x2.toNatClampNeg x2 → (gK g x1 = 3 ∧ (gK g (gR g x1 6) = 18 ∧ (P_J2_get g (gR g x1 6) x2 ι13 (fun r16 ι17 => (isSl (gK g r16) ∧ (gK g (gR g x0 1) = 100 ∧ (vp_in x2 (gL g (gR g x0 1)) ∧ (∀ ι22, ι22 = up2 ι17 (gR g x0 1) x2.toNatClampNeg (ι17 r16 4) → (P_X6_begins_13 g Q  n x0 x1 (x2 + 1) ι22)))))))))))))))
def P_X6_begins (g : GT) (a0 : Nat) (a1 : Nat) (ι : S) (Q : S → Prop) : Prop := (gK g a1 = 3 ∧ (gK g (gR g a1 6) = 18 ∧ (P_J2_size g (gR g a1 6) ι (fun r26 ι27 => (gK g a0 = 6 ∧ (∀ ι31, ι31 = up2 ι27 a0 2 r26 → (∃ n9, P_X6_begins_13 g Q n9 a0 a1 0 ι31)))))))
set_option maxHeartbeats 2000000 in
theorem w_X6_begins_13 (X : CX p s m args c meth cX6_begins 3 none RX6 D dA ad A) {Q : S → Prop} : ∀ (n : Nat) (x0 : Nat) (x1 : Nat) (x2 : Int32) (ι : S) (H : Heap) (locs : List Loc) (ls : Array Slot), P_X6_begins_13 g Q n x0 x1 x2 ι → PW D dA A s.heap ad (HS g ι) H locs → LH ad ls 3 [(0, pX x0), (1, pX x1), (2, iX x2)] → WGv p l e ({ frames := 4, cells := 0, slots := 0, locals := 87 } : Room) s m args below meth c D dA ad A g Q H locs (F0 m 13 ls []) := by
  intro n
  induction n with
  | zero =>
    intro x0 x1 x2 ι H locs ls hF
    exact hF.elim
  | succ n ih =>
    intro x0 x1 x2 ι H locs ls hF hP hl
    rw [P_X6_begins_13] at hF
    refine ph_iload_n (n := 2) X hl dX6_begins_13 rfl rfl ?_
    refine ph_aload_n (n := 0) X hl dX6_begins_14 rfl rfl ?_
    obtain ⟨hm1, hF⟩ := hF
    refine cg_geti 5 2 X in_X6 hP hm1 q586 dX6_begins_15 ?_
    refine lv_icmp_ge (tgt := 54) X.1 X.2.1 dX6_begins_18 (by decide) (fun c24 => ?_) (fun c24 => ?_)
    · have hF := hF.1 c24
      refine ph_aload_n (n := 0) X hl dX6_begins_54 rfl rfl ?_
      refine lv_iconst (v := 0) X.1 X.2.1 dX6_begins_55 (by decide) ?_
      refine cg_puti 5 3 X in_X6 tyX6 tyX6_ok nmX6 hP hm1 q588 dX6_begins_56 hF (fun H locs ι2 hP hF => ?_)
      refine ph_aload_n (n := 0) X hl dX6_begins_59 rfl rfl ?_
      refine lv_iconst (v := (-1)) X.1 X.2.1 dX6_begins_60 (by decide) ?_
      refine cg_puti 5 4 X in_X6 tyX6 tyX6_ok nmX6 hP hm1 q591 dX6_begins_61 hF (fun H locs ι3 hP hF => ?_)
      refine ph_aload_n (n := 0) X hl dX6_begins_64 rfl rfl ?_
      refine lv_iconst (v := 0) X.1 X.2.1 dX6_begins_65 (by decide) ?_
      refine cg_puti 5 5 X in_X6 tyX6 tyX6_ok nmX6 hP hm1 q594 dX6_begins_66 hF (fun H locs ι4 hP hF => ?_)
      refine ph_aload_n (n := 0) X hl dX6_begins_69 rfl rfl ?_
      refine ph_aload_n (n := 1) X hl dX6_begins_70 rfl rfl ?_
      obtain ⟨hm5, hF⟩ := hF
      refine cg_getiN 2 4 X in_X2 hP hm5 q531 dX6_begins_71 ?_
      refine cg_puti 5 6 X in_X6 tyX6 tyX6_ok nmX6 hP hm1 q597 dX6_begins_74 hF (fun H locs ι6 hP hF => ?_)
      refine ph_aload_n (n := 0) X hl dX6_begins_77 rfl rfl ?_
      refine ph_aload_n (n := 1) X hl dX6_begins_78 rfl rfl ?_
      refine lv_iconst (v := (-1)) X.1 X.2.1 dX6_begins_79 (by decide) ?_
      refine cg_callVi 2 [iX (-1)] X hP hm5 (met_X2_isFree l D dA ad g _ _ hF) (cwV 1 X.2.2.2.2.1 (lw_V q792 q793 q794 q99 q795) rfl rfl rfl (by decide +kernel) ⟨Nat.le_of_ble_eq_true rfl, Nat.le_of_ble_eq_true rfl⟩) rfl hl (k8 := 1) (csr (cs0 (k := 0))) (by decide) ⟨Nat.le_refl _, Nat.le_refl _⟩ dX6_begins_80 rfl (fun r7 ι8 H locs hF hP => ?_)
      obtain ⟨hb11, hF⟩ := hF
      refine cg_putz 5 7 X in_X6 tyX6 tyX6_ok nmX6 hP hm1 q599 dX6_begins_83 hb11 hF (fun H locs ι10 hP hF => ?_)
      exact cg_vret X hP hF dX6_begins_86
    · have hF := hF.2 c24
      refine ph_aload_n (n := 0) X hl dX6_begins_21 rfl rfl ?_
      refine cg_getr 5 0 X in_X6 hP hm1 q580 dX6_begins_22 ?_
      refine ph_iload_n (n := 2) X hl dX6_begins_25 rfl rfl ?_
      refine ph_iload_n (n := 2) X hl dX6_begins_26 rfl rfl ?_
      obtain ⟨hm12, hF⟩ := hF
      obtain ⟨hr14, hF⟩ := hF
      refine cg_iast X hP hm12 hr14 (k := x2.toNatClampNeg) rfl dX6_begins_27 hF (fun H locs ι13 hP hF => ?_)
      refine ph_aload_n (n := 0) X hl dX6_begins_28 rfl rfl ?_
      refine cg_getr 5 1 X in_X6 hP hm1 q583 dX6_begins_29 ?_
      refine ph_iload_n (n := 2) X hl dX6_begins_32 rfl rfl ?_
      refine ph_aload_n (n := 1) X hl dX6_begins_33 rfl rfl ?_
      obtain ⟨hm15, hF⟩ := hF
      refine cg_getrN 2 6 X in_X2 hP hm15 q536 dX6_begins_34 ?_
      refine ph_iload_n (n := 2) X hl dX6_begins_37 rfl rfl ?_
      obtain ⟨hm19, hF⟩ := hF
      refine cg_callVq 17 [iX x2] X hP hm19 (met_J2_get l D dA ad g _ _ hF) (cwV 1 X.2.2.2.2.1 (lw_V q777 q778 q779 q102 q780) rfl rfl rfl (by decide +kernel) ⟨Nat.le_of_ble_eq_true rfl, Nat.le_of_ble_eq_true rfl⟩) rfl hl (k8 := 2) (csi (csr (cs0 (k := 0)))) (by decide) ⟨Nat.le_refl _, Nat.le_refl _⟩ dX6_begins_38 rfl (fun r16 ι17 H locs hF hv18 hP => ?_)
      obtain ⟨hm20, hF⟩ := hF
      refine cg_castSl X hP hm20 q791 dX6_begins_41 ?_
      refine cg_getSl 4 X hP hm20 q1500 dX6_begins_44 ?_
      obtain ⟨hm21, hF⟩ := hF
      obtain ⟨hr23, hF⟩ := hF
      refine cg_iast X hP hm21 hr23 (k := x2.toNatClampNeg) rfl dX6_begins_47 hF (fun H locs ι22 hP hF => ?_)
      refine ph_iinc (v := x2 + 1) (k := 2) X hl dX6_begins_48 rfl rfl (by decide) rfl (fun ls hl => ?_)
      refine lv_goto (tgt := 13) X.1 X.2.1 dX6_begins_51 (by decide) ?_
      exact ih _ _ _ _ _ _ _ hF hP (lh_sub hl [1, 2, 0] rfl)
set_option maxHeartbeats 2000000 in
theorem met_X6_begins (l : Launch) (D : va_G) (dA : Nat → ClassId) (ad : Nat → Nat) (g : GT) (ι : S) (sz : Nat) {a0 : Nat} {a1 : Nat} {Q : S → Prop} (hF : P_X6_begins g a0 a1 ι Q) : CGv l yX6_begins cX6_begins 3 ({ frames := 4, cells := 0, slots := 0, locals := 87 } : Room) D dA ad g ι sz [pX a0, pX a1] Q := by
  unfold P_X6_begins at hF
  refine ph_enter [pX a0, pX a1] (Qc := fun A => va_Qv (GQv g Q) (CB D dA ad A) A) (by decide +kernel) (Nat.le_of_ble_eq_true rfl) ?_
  intro p e s m args below meth c A ls X hP hl hnm
  have hl : LH ad ls 3 [(0, pX a0), (1, pX a1)] := hl
  refine ph_aload_n (n := 0) X hl dX6_begins_0 rfl rfl ?_
  refine ph_aload_n (n := 1) X hl dX6_begins_1 rfl rfl ?_
  obtain ⟨hm25, hF⟩ := hF
  refine cg_getrN 2 6 X in_X2 hP hm25 q536 dX6_begins_2 ?_
  obtain ⟨hm29, hF⟩ := hF
  refine cg_callVi 17 [] X hP hm29 (met_J2_size l D dA ad g _ _ hF) (cwV 0 X.2.2.2.2.1 (lw_V q773 q774 q775 q102 q776) rfl rfl rfl (by decide +kernel) ⟨Nat.le_of_ble_eq_true rfl, Nat.le_of_ble_eq_true rfl⟩) rfl hl (k8 := 1) (csr (cs0 (k := 0))) (by decide) ⟨Nat.le_refl _, Nat.le_refl _⟩ dX6_begins_5 rfl (fun r26 ι27 H locs hF hP => ?_)
  obtain ⟨hm30, hF⟩ := hF
  refine cg_puti 5 2 X in_X6 tyX6 tyX6_ok nmX6 hP hm30 q586 dX6_begins_8 hF (fun H locs ι31 hP hF => ?_)
  refine lv_iconst (v := 0) X.1 X.2.1 dX6_begins_11 (by decide) ?_
  refine ph_istore_n X hl dX6_begins_12 rfl (by decide) rfl (fun ls hl => ?_)
  obtain ⟨n9, hF⟩ := hF
  exact w_X6_begins_13 X n9 _ _ _ _ _ _ _ hF hP (lh_sub hl [1, 2, 0] rfl)
def P_X7_isAwake (g : GT) (a0 : Nat) (a1 : Int32) (ι : S) (Q : Int32 → S → Prop) : Prop := (gK g a0 = 7 ∧ (gK g (gR g a0 5) = 100 ∧ (vp_in a1 (gL g (gR g a0 5)) ∧ (((ι (gR g a0 5) a1.toNatClampNeg) = (-1) → (Q 0 ι)) ∧ (¬ (ι (gR g a0 5) a1.toNatClampNeg) = (-1) → (vp_in a1 (gL g (gR g a0 5)) ∧ (gK g (gR g a0 0) = 3 ∧ (((ι (gR g a0 0) 3) ≤ ((ι a0 14) - (ι (gR g a0 5) a1.toNatClampNeg)) → (Q 0 ι)) ∧ (¬ (ι (gR g a0 0) 3) ≤ ((ι a0 14) - (ι (gR g a0 5) a1.toNatClampNeg)) → (Q 1 ι))))))))))
set_option maxHeartbeats 2000000 in
theorem met_X7_isAwake (l : Launch) (D : va_G) (dA : Nat → ClassId) (ad : Nat → Nat) (g : GT) (ι : S) (sz : Nat) {a0 : Nat} {a1 : Int32} {Q : Int32 → S → Prop} (hF : P_X7_isAwake g a0 a1 ι Q) : CGi l yX7_isAwake cX7_isAwake 2 .boolean ({ frames := 0, cells := 0, slots := 0, locals := 0 } : Room) D dA ad g ι sz [pX a0, iX a1] Q := by
  unfold P_X7_isAwake at hF
  refine ph_enter [pX a0, iX a1] (Qc := fun A => va_Qi (GQi g Q) (CB D dA ad A) A) (by decide +kernel) (Nat.le_of_ble_eq_true rfl) ?_
  intro p e s m args below meth c A ls X hP hl hnm
  have hl : LH ad ls 2 [(0, pX a0), (1, iX a1)] := hl
  refine ph_aload_n (n := 0) X hl dX7_isAwake_0 rfl rfl ?_
  obtain ⟨hm1, hF⟩ := hF
  refine cg_getr 6 5 X in_X7 hP hm1 q724 dX7_isAwake_1 ?_
  refine ph_iload_n (n := 1) X hl dX7_isAwake_4 rfl rfl ?_
  obtain ⟨hm2, hF⟩ := hF
  obtain ⟨hr3, hF⟩ := hF
  refine cg_iald X hP hm2 hr3 (k := a1.toNatClampNeg) rfl dX7_isAwake_5 ?_
  refine lv_iconst (v := (-1)) X.1 X.2.1 dX7_isAwake_6 (by decide) ?_
  refine lv_icmp_eq (tgt := 35) X.1 X.2.1 dX7_isAwake_7 (by decide) (fun c7 => ?_) (fun c7 => ?_)
  · have hF := hF.1 c7
    refine lv_iconst (v := 0) X.1 X.2.1 dX7_isAwake_35 (by decide) ?_
    exact cg_zret X hP isB_0 hF dX7_isAwake_36
  · have hF := hF.2 c7
    refine ph_aload_n (n := 0) X hl dX7_isAwake_10 rfl rfl ?_
    refine cg_geti 6 14 X in_X7 hP hm1 q736 dX7_isAwake_11 ?_
    refine ph_aload_n (n := 0) X hl dX7_isAwake_14 rfl rfl ?_
    refine cg_getr 6 5 X in_X7 hP hm1 q724 dX7_isAwake_15 ?_
    refine ph_iload_n (n := 1) X hl dX7_isAwake_18 rfl rfl ?_
    obtain ⟨hr4, hF⟩ := hF
    refine cg_iald X hP hm2 hr4 (k := a1.toNatClampNeg) rfl dX7_isAwake_19 ?_
    refine lv_isub X.1 X.2.1 dX7_isAwake_20 ?_
    refine ph_aload_n (n := 0) X hl dX7_isAwake_21 rfl rfl ?_
    refine cg_getr 6 0 X in_X7 hP hm1 q717 dX7_isAwake_22 ?_
    obtain ⟨hm5, hF⟩ := hF
    refine cg_getiN 2 3 X in_X2 hP hm5 q528 dX7_isAwake_25 ?_
    refine lv_icmp_ge (tgt := 35) X.1 X.2.1 dX7_isAwake_28 (by decide) (fun c6 => ?_) (fun c6 => ?_)
    · have hF := hF.1 c6
      refine lv_iconst (v := 0) X.1 X.2.1 dX7_isAwake_35 (by decide) ?_
      exact cg_zret X hP isB_0 hF dX7_isAwake_36
    · have hF := hF.2 c6
      refine lv_iconst (v := 1) X.1 X.2.1 dX7_isAwake_31 (by decide) ?_
      refine lv_goto (tgt := 36) X.1 X.2.1 dX7_isAwake_32 (by decide) ?_
      exact cg_zret X hP isB_1 hF dX7_isAwake_36
def P_X7_isSnorer (g : GT) (a0 : Nat) (a1 : Int32) (ι : S) (Q : Int32 → S → Prop) : Prop := ((a1 < 0 → (Q 0 ι)) ∧ (¬ a1 < 0 → (gK g a0 = 7 ∧ (gK g (gR g a0 1) = 6 ∧ (((ι (gR g a0 1) 2) ≤ a1 → (Q 0 ι)) ∧ (¬ (ι (gR g a0 1) 2) ≤ a1 → (gK g (gR g a0 0) = 3 ∧ (gK g (gR g (gR g a0 1) 0) = 100 ∧ (vp_in a1 (gL g (gR g (gR g a0 1) 0)) ∧ (gK g (gR g (gR g a0 0) 6) = 18 ∧ (P_J2_get g (gR g (gR g a0 0) 6) (ι (gR g (gR g a0 1) 0) a1.toNatClampNeg) ι (fun r6 ι7 => (isSl (gK g r6) ∧ (((slSnoring (gK g r6)) = 0 → (Q 0 ι7)) ∧ (¬ (slSnoring (gK g r6)) = 0 → (Q 1 ι7))))))))))))))))
set_option maxHeartbeats 2000000 in
theorem met_X7_isSnorer (l : Launch) (D : va_G) (dA : Nat → ClassId) (ad : Nat → Nat) (g : GT) (ι : S) (sz : Nat) {a0 : Nat} {a1 : Int32} {Q : Int32 → S → Prop} (hF : P_X7_isSnorer g a0 a1 ι Q) : CGi l yX7_isSnorer cX7_isSnorer 2 .boolean ({ frames := 3, cells := 0, slots := 0, locals := 80 } : Room) D dA ad g ι sz [pX a0, iX a1] Q := by
  unfold P_X7_isSnorer at hF
  refine ph_enter [pX a0, iX a1] (Qc := fun A => va_Qi (GQi g Q) (CB D dA ad A) A) (by decide +kernel) (Nat.le_of_ble_eq_true rfl) ?_
  intro p e s m args below meth c A ls X hP hl hnm
  have hl : LH ad ls 2 [(0, pX a0), (1, iX a1)] := hl
  refine ph_iload_n (n := 1) X hl dX7_isSnorer_0 rfl rfl ?_
  refine lv_if_lt (tgt := 47) X.1 X.2.1 dX7_isSnorer_1 (by decide) (fun c16 => ?_) (fun c16 => ?_)
  · have hF := hF.1 c16
    refine lv_iconst (v := 0) X.1 X.2.1 dX7_isSnorer_47 (by decide) ?_
    exact cg_zret X hP isB_0 hF dX7_isSnorer_48
  · have hF := hF.2 c16
    refine ph_iload_n (n := 1) X hl dX7_isSnorer_4 rfl rfl ?_
    refine ph_aload_n (n := 0) X hl dX7_isSnorer_5 rfl rfl ?_
    obtain ⟨hm1, hF⟩ := hF
    refine cg_getr 6 1 X in_X7 hP hm1 q718 dX7_isSnorer_6 ?_
    obtain ⟨hm2, hF⟩ := hF
    refine cg_getiN 5 2 X in_X6 hP hm2 q587 dX7_isSnorer_9 ?_
    refine lv_icmp_ge (tgt := 47) X.1 X.2.1 dX7_isSnorer_12 (by decide) (fun c15 => ?_) (fun c15 => ?_)
    · have hF := hF.1 c15
      refine lv_iconst (v := 0) X.1 X.2.1 dX7_isSnorer_47 (by decide) ?_
      exact cg_zret X hP isB_0 hF dX7_isSnorer_48
    · have hF := hF.2 c15
      refine ph_aload_n (n := 0) X hl dX7_isSnorer_15 rfl rfl ?_
      refine cg_getr 6 0 X in_X7 hP hm1 q717 dX7_isSnorer_16 ?_
      obtain ⟨hm3, hF⟩ := hF
      refine cg_getrN 2 6 X in_X2 hP hm3 q537 dX7_isSnorer_19 ?_
      refine ph_aload_n (n := 0) X hl dX7_isSnorer_22 rfl rfl ?_
      refine cg_getr 6 1 X in_X7 hP hm1 q718 dX7_isSnorer_23 ?_
      refine cg_getrN 5 0 X in_X6 hP hm2 q581 dX7_isSnorer_26 ?_
      refine ph_iload_n (n := 1) X hl dX7_isSnorer_29 rfl rfl ?_
      obtain ⟨hm4, hF⟩ := hF
      obtain ⟨hr5, hF⟩ := hF
      refine cg_iald X hP hm4 hr5 (k := a1.toNatClampNeg) rfl dX7_isSnorer_30 ?_
      obtain ⟨hm9, hF⟩ := hF
      refine cg_callVq 17 [iX (ι (gR g (gR g a0 1) 0) a1.toNatClampNeg)] X hP hm9 (met_J2_get l D dA ad g _ _ hF) (cwV 1 X.2.2.2.2.1 (lw_V q985 q778 q779 q102 q780) rfl rfl rfl (by decide +kernel) ⟨Nat.le_of_ble_eq_true rfl, Nat.le_of_ble_eq_true rfl⟩) rfl hl (k8 := 0) (cs0 (k := 0)) (by decide) ⟨Nat.le_refl _, Nat.le_refl _⟩ dX7_isSnorer_31 rfl (fun r6 ι7 H locs hF hv8 hP => ?_)
      obtain ⟨hm10, hF⟩ := hF
      refine cg_castSl X hP hm10 q986 dX7_isSnorer_34 ?_
      refine cg_v_isSnoring X hP hl hm10 q1052 (k8 := 0) (cs0 (k := 0)) (by decide) ⟨Nat.le_of_ble_eq_true rfl, Nat.le_of_ble_eq_true rfl⟩ ⟨Nat.le_refl _, Nat.le_refl _⟩ dX7_isSnorer_37 (fun H locs hP => ?_)
      refine lv_if_eq (tgt := 47) X.1 X.2.1 dX7_isSnorer_40 (by decide) (fun c14 => ?_) (fun c14 => ?_)
      · have hF := hF.1 c14
        refine lv_iconst (v := 0) X.1 X.2.1 dX7_isSnorer_47 (by decide) ?_
        exact cg_zret X hP isB_0 hF dX7_isSnorer_48
      · have hF := hF.2 c14
        refine lv_iconst (v := 1) X.1 X.2.1 dX7_isSnorer_43 (by decide) ?_
        refine lv_goto (tgt := 48) X.1 X.2.1 dX7_isSnorer_44 (by decide) ?_
        exact cg_zret X hP isB_1 hF dX7_isSnorer_48
def P_X7_wake (g : GT) (a0 : Nat) (a1 : Int32) (ι : S) (Q : S → Prop) : Prop := (gK g a0 = 7 ∧ (gK g (gR g a0 4) = 100 ∧ (vp_in a1 (gL g (gR g a0 4)) ∧ (vp_in a1 (gL g (gR g a0 4)) ∧ (∀ ι4, ι4 = up2 ι (gR g a0 4) a1.toNatClampNeg ((ι (gR g a0 4) a1.toNatClampNeg) + 1) → (gK g (gR g a0 5) = 100 ∧ (vp_in a1 (gL g (gR g a0 5)) ∧ (∀ ι7, ι7 = up2 ι4 (gR g a0 5) a1.toNatClampNeg (ι4 a0 14) → (Q ι7)))))))))
set_option maxHeartbeats 2000000 in
theorem met_X7_wake (l : Launch) (D : va_G) (dA : Nat → ClassId) (ad : Nat → Nat) (g : GT) (ι : S) (sz : Nat) {a0 : Nat} {a1 : Int32} {Q : S → Prop} (hF : P_X7_wake g a0 a1 ι Q) : CGv l yX7_wake cX7_wake 2 ({ frames := 0, cells := 0, slots := 0, locals := 0 } : Room) D dA ad g ι sz [pX a0, iX a1] Q := by
  unfold P_X7_wake at hF
  refine ph_enter [pX a0, iX a1] (Qc := fun A => va_Qv (GQv g Q) (CB D dA ad A) A) (by decide +kernel) (Nat.le_of_ble_eq_true rfl) ?_
  intro p e s m args below meth c A ls X hP hl hnm
  have hl : LH ad ls 2 [(0, pX a0), (1, iX a1)] := hl
  refine ph_aload_n (n := 0) X hl dX7_wake_0 rfl rfl ?_
  obtain ⟨hm1, hF⟩ := hF
  refine cg_getr 6 4 X in_X7 hP hm1 q722 dX7_wake_1 ?_
  refine ph_iload_n (n := 1) X hl dX7_wake_4 rfl rfl ?_
  refine ph_dup2_ir X dX7_wake_5 ?_
  obtain ⟨hm2, hF⟩ := hF
  obtain ⟨hr3, hF⟩ := hF
  refine cg_iald X hP hm2 hr3 (k := a1.toNatClampNeg) rfl dX7_wake_6 ?_
  refine lv_iconst (v := 1) X.1 X.2.1 dX7_wake_7 (by decide) ?_
  refine lv_iadd X.1 X.2.1 dX7_wake_8 ?_
  obtain ⟨hr5, hF⟩ := hF
  refine cg_iast X hP hm2 hr5 (k := a1.toNatClampNeg) rfl dX7_wake_9 hF (fun H locs ι4 hP hF => ?_)
  refine ph_aload_n (n := 0) X hl dX7_wake_10 rfl rfl ?_
  refine cg_getr 6 5 X in_X7 hP hm1 q724 dX7_wake_11 ?_
  refine ph_iload_n (n := 1) X hl dX7_wake_14 rfl rfl ?_
  refine ph_aload_n (n := 0) X hl dX7_wake_15 rfl rfl ?_
  refine cg_geti 6 14 X in_X7 hP hm1 q736 dX7_wake_16 ?_
  obtain ⟨hm6, hF⟩ := hF
  obtain ⟨hr8, hF⟩ := hF
  refine cg_iast X hP hm6 hr8 (k := a1.toNatClampNeg) rfl dX7_wake_19 hF (fun H locs ι7 hP hF => ?_)
  exact cg_vret X hP hF dX7_wake_20
def P_X7_wakes_144 (g : GT) (Q : Int32 → S → Prop) (y0 : Nat) (y1 : Nat) (y2 : Int32) (y3 : Int32) (x0 : Nat) (x1 : Int32) (x3 : Int32) (x5 : Nat) (ι : S) : Prop := (gK g y0 = 4 ∧ (P_X3_sees g y0 y1 (y2 + y3) ι (fun ι2 => (gK g x0 = 7 ∧ (gK g (gR g x0 1) = 6 ∧ (gK g x5 = 4 ∧ (P_X3_sees g x5 110 (((ι2 (gR g x0 1) 2) - 1) - x1) ι2 (fun ι8 => (gK g (gR g x0 4) = 100 ∧ (vp_in x3 (gL g (gR g x0 4)) ∧ (P_X3_sees g x5 111 (ι8 (gR g x0 4) x3.toNatClampNeg) ι8 (fun ι14 => (gK g (gR g x0 0) = 3 ∧ (P_byR g 700 (gR g (gR g x0 0) 8) x5 ι14 (fun r20 ι21 => ((r20 = 0 → (Q 0 ι21)) ∧ (¬ r20 = 0 → (Q 1 ι21))))))))))))))))))
def P_X7_wakes_129 (g : GT) (Q : Int32 → S → Prop) (y0 : Nat) (y1 : Nat) (y2 : Int32) (x0 : Nat) (x1 : Int32) (x3 : Int32) (x5 : Nat) (ι : S) : Prop := (gK g x0 = 7 ∧ (P_X7_isSnorer g x0 (x1 + 1) ι (fun r23 ι24 => ((r23 = 0 → (P_X7_wakes_144 g Q y0 y1 y2 0 x0 x1 x3 x5 ι24)) ∧ (¬ r23 = 0 → (P_X7_wakes_144 g Q y0 y1 y2 1 x0 x1 x3 x5 ι24))))))
def P_X7_wakes (g : GT) (a0 : Nat) (a1 : Int32) (a2 : Int32) (ι : S) (Q : Int32 → S → Prop) : Prop := (gK g a0 = 7 ∧ (gK g (gR g a0 1) = 6 ∧ (gK g (gR g (gR g a0 1) 0) = 100 ∧ (vp_in a1 (gL g (gR g (gR g a0 1) 0)) ∧ (gK g (gR g a0 0) = 3 ∧ (gK g (gR g (gR g a0 0) 6) = 18 ∧ (P_J2_get g (gR g (gR g a0 0) 6) (ι (gR g (gR g a0 1) 0) a1.toNatClampNeg) ι (fun r33 ι34 => (isSl (gK g r33) ∧ ((¬ (gR g (gR g a0 0) 8) = 0 → (gK g (gR g (gR g a0 0) 9) = 4 ∧ (P_X3_sees g (gR g (gR g a0 0) 9) 105 (ι34 r33 2) ι34 (fun ι39 => (P_X3_sees g (gR g (gR g a0 0) 9) 106 a2 ι39 (fun ι43 => (P_X3_sees g (gR g (gR g a0 0) 9) 107 (ι43 a0 11) ι43 (fun ι46 => (P_X3_sees g (gR g (gR g a0 0) 9) 108 ((ι46 a0 14) / 60) ι46 (fun ι49 => (P_X7_isSnorer g a0 (a1 - 1) ι49 (fun r51 ι52 => ((r51 = 0 → (P_X7_wakes_129 g Q (gR g (gR g a0 0) 9) 109 0 a0 a1 (ι (gR g (gR g a0 1) 0) a1.toNatClampNeg) (gR g (gR g a0 0) 9) ι52)) ∧ (¬ r51 = 0 → (P_X7_wakes_129 g Q (gR g (gR g a0 0) 9) 109 1 a0 a1 (ι (gR g (gR g a0 1) 0) a1.toNatClampNeg) (gR g (gR g a0 0) 9) ι52))))))))))))))) ∧ ((gR g (gR g a0 0) 8) = 0 → (((ι34 r33 2) < a2 → (Q 0 ι34)) ∧ (¬ (ι34 r33 2) < a2 → (Q 1 ι34))))))))))))))
set_option maxHeartbeats 2000000 in
theorem w_X7_wakes_144 (X : CX p s m args c meth cX7_wakes 6 (some .boolean) RX7 D dA ad A) {Q : Int32 → S → Prop} : ∀ (y0 : Nat) (y1 : Nat) (y2 : Int32) (y3 : Int32) (x0 : Nat) (x1 : Int32) (x3 : Int32) (x5 : Nat) (ι : S) (H : Heap) (locs : List Loc) (ls : Array Slot), P_X7_wakes_144 g Q y0 y1 y2 y3 x0 x1 x3 x5 ι → PW D dA A s.heap ad (HS g ι) H locs → LH ad ls 6 [(0, pX x0), (1, iX x1), (3, iX x3), (5, pX x5)] → WGi p l e ({ frames := 2103, cells := 0, slots := 0, locals := 44864 } : Room) s m args below meth c D dA ad A g Q H locs (F0 m 144 ls [.int y3, .int y2, rv ad y1, rv ad y0]) := by
  intro y0 y1 y2 y3 x0 x1 x3 x5 ι H locs ls hF hP hl
  unfold P_X7_wakes_144 at hF
  refine lv_iadd X.1 X.2.1 dX7_wakes_144 ?_
  obtain ⟨hm4, hF⟩ := hF
  refine cg_callVv 3 [pX y1, iX (y2 + y3)] X hP hm4 (met_X3_sees l D dA ad g _ _ hF) (cwV 2 X.2.2.2.2.1 (lw_V q1030 q1031 q1032 q119 q1033) rfl rfl rfl (by decide +kernel) ⟨Nat.le_of_ble_eq_true rfl, Nat.le_of_ble_eq_true rfl⟩) rfl hl (k8 := 0) (cs0 (k := 0)) (by decide) ⟨Nat.le_refl _, Nat.le_refl _⟩ dX7_wakes_145 rfl (fun ι2 H locs hF hP => ?_)
  refine ph_aload (n := 3) X hl dX7_wakes_148 rfl ?_
  refine cg_getsV (k := 5) X hP (by decide) rfl q1064 dX7_wakes_150 ?_
  refine ph_aload_n (n := 0) X hl dX7_wakes_153 rfl rfl ?_
  obtain ⟨hm5, hF⟩ := hF
  refine cg_getr 6 1 X in_X7 hP hm5 q718 dX7_wakes_154 ?_
  obtain ⟨hm6, hF⟩ := hF
  refine cg_getiN 5 2 X in_X6 hP hm6 q587 dX7_wakes_157 ?_
  refine lv_iconst (v := 1) X.1 X.2.1 dX7_wakes_160 (by decide) ?_
  refine lv_isub X.1 X.2.1 dX7_wakes_161 ?_
  refine ph_iload_n (n := 1) X hl dX7_wakes_162 rfl rfl ?_
  refine lv_isub X.1 X.2.1 dX7_wakes_163 ?_
  obtain ⟨hm10, hF⟩ := hF
  refine cg_callVv 3 [pX 110, iX (((ι2 (gR g x0 1) 2) - 1) - x1)] X hP hm10 (met_X3_sees l D dA ad g _ _ hF) (cwV 2 X.2.2.2.2.1 (lw_V q1030 q1031 q1032 q119 q1033) rfl rfl rfl (by decide +kernel) ⟨Nat.le_of_ble_eq_true rfl, Nat.le_of_ble_eq_true rfl⟩) rfl hl (k8 := 0) (cs0 (k := 0)) (by decide) ⟨Nat.le_refl _, Nat.le_refl _⟩ dX7_wakes_164 rfl (fun ι8 H locs hF hP => ?_)
  refine ph_aload (n := 3) X hl dX7_wakes_167 rfl ?_
  refine cg_getsV (k := 6) X hP (by decide) rfl q1066 dX7_wakes_169 ?_
  refine ph_aload_n (n := 0) X hl dX7_wakes_172 rfl rfl ?_
  refine cg_getr 6 4 X in_X7 hP hm5 q722 dX7_wakes_173 ?_
  refine ph_iload_n (n := 2) X hl dX7_wakes_176 rfl rfl ?_
  obtain ⟨hm11, hF⟩ := hF
  obtain ⟨hr12, hF⟩ := hF
  refine cg_iald X hP hm11 hr12 (k := x3.toNatClampNeg) rfl dX7_wakes_177 ?_
  refine cg_callVv 3 [pX 111, iX (ι8 (gR g x0 4) x3.toNatClampNeg)] X hP hm10 (met_X3_sees l D dA ad g _ _ hF) (cwV 2 X.2.2.2.2.1 (lw_V q1030 q1031 q1032 q119 q1033) rfl rfl rfl (by decide +kernel) ⟨Nat.le_of_ble_eq_true rfl, Nat.le_of_ble_eq_true rfl⟩) rfl hl (k8 := 0) (cs0 (k := 0)) (by decide) ⟨Nat.le_refl _, Nat.le_refl _⟩ dX7_wakes_178 rfl (fun ι14 H locs hF hP => ?_)
  refine ph_aload_n (n := 0) X hl dX7_wakes_181 rfl rfl ?_
  refine cg_getr 6 0 X in_X7 hP hm5 q717 dX7_wakes_182 ?_
  obtain ⟨hm16, hF⟩ := hF
  refine cg_getrN 2 8 X in_X2 hP hm16 q543 dX7_wakes_185 ?_
  refine ph_aload (n := 3) X hl dX7_wakes_188 rfl ?_
  refine cg_by (v := x5) X hP (met_byR l D dA ad g 700 _ _ _ _ _ hF) hl q1068 (k8 := 0) (cs0 (k := 0)) (by decide) ⟨Nat.le_of_ble_eq_true rfl, Nat.le_of_ble_eq_true rfl⟩ ⟨Nat.le_refl _, Nat.le_refl _⟩ dX7_wakes_190 (fun r20 ι21 H locs hF hP => ?_)
  refine lv_if_eq (tgt := 200) X.1 X.2.1 dX7_wakes_193 (by decide) (fun c22 => ?_) (fun c22 => ?_)
  · have hF := hF.1 c22
    refine lv_iconst (v := 0) X.1 X.2.1 dX7_wakes_200 (by decide) ?_
    exact cg_zret X hP isB_0 hF dX7_wakes_201
  · have hF := hF.2 c22
    refine lv_iconst (v := 1) X.1 X.2.1 dX7_wakes_196 (by decide) ?_
    refine lv_goto (tgt := 201) X.1 X.2.1 dX7_wakes_197 (by decide) ?_
    exact cg_zret X hP isB_1 hF dX7_wakes_201
set_option maxHeartbeats 2000000 in
theorem w_X7_wakes_129 (X : CX p s m args c meth cX7_wakes 6 (some .boolean) RX7 D dA ad A) {Q : Int32 → S → Prop} : ∀ (y0 : Nat) (y1 : Nat) (y2 : Int32) (x0 : Nat) (x1 : Int32) (x3 : Int32) (x5 : Nat) (ι : S) (H : Heap) (locs : List Loc) (ls : Array Slot), P_X7_wakes_129 g Q y0 y1 y2 x0 x1 x3 x5 ι → PW D dA A s.heap ad (HS g ι) H locs → LH ad ls 6 [(0, pX x0), (1, iX x1), (3, iX x3), (5, pX x5)] → WGi p l e ({ frames := 2103, cells := 0, slots := 0, locals := 44864 } : Room) s m args below meth c D dA ad A g Q H locs (F0 m 129 ls [.int y2, rv ad y1, rv ad y0]) := by
  intro y0 y1 y2 x0 x1 x3 x5 ι H locs ls hF hP hl
  unfold P_X7_wakes_129 at hF
  refine ph_aload_n (n := 0) X hl dX7_wakes_129 rfl rfl ?_
  refine ph_iload_n (n := 1) X hl dX7_wakes_130 rfl rfl ?_
  refine lv_iconst (v := 1) X.1 X.2.1 dX7_wakes_131 (by decide) ?_
  refine lv_iadd X.1 X.2.1 dX7_wakes_132 ?_
  obtain ⟨hm26, hF⟩ := hF
  refine cg_callVi 6 [iX (x1 + 1)] X hP hm26 (met_X7_isSnorer l D dA ad g _ _ hF) (cwV 1 X.2.2.2.2.1 (lw_V q1048 q1050 qs17 q124 q1051) rfl rfl rfl (by decide +kernel) ⟨Nat.le_of_ble_eq_true rfl, Nat.le_of_ble_eq_true rfl⟩) rfl hl (k8 := 3) (csi (csr (csr (cs0 (k := 0))))) (by decide) ⟨Nat.le_refl _, Nat.le_refl _⟩ dX7_wakes_133 rfl (fun r23 ι24 H locs hF hP => ?_)
  refine lv_if_eq (tgt := 143) X.1 X.2.1 dX7_wakes_136 (by decide) (fun c27 => ?_) (fun c27 => ?_)
  · have hF := hF.1 c27
    refine lv_iconst (v := 0) X.1 X.2.1 dX7_wakes_143 (by decide) ?_
    exact w_X7_wakes_144 X _ _ _ _ _ _ _ _ _ _ _ _ hF hP hl
  · have hF := hF.2 c27
    refine lv_iconst (v := 1) X.1 X.2.1 dX7_wakes_139 (by decide) ?_
    refine lv_goto (tgt := 144) X.1 X.2.1 dX7_wakes_140 (by decide) ?_
    exact w_X7_wakes_144 X _ _ _ _ _ _ _ _ _ _ _ _ hF hP hl
set_option maxHeartbeats 2000000 in
theorem met_X7_wakes (l : Launch) (D : va_G) (dA : Nat → ClassId) (ad : Nat → Nat) (g : GT) (ι : S) (sz : Nat) {a0 : Nat} {a1 : Int32} {a2 : Int32} {Q : Int32 → S → Prop} (hF : P_X7_wakes g a0 a1 a2 ι Q) : CGi l yX7_wakes cX7_wakes 6 .boolean ({ frames := 2103, cells := 0, slots := 0, locals := 44864 } : Room) D dA ad g ι sz [pX a0, iX a1, iX a2] Q := by
  unfold P_X7_wakes at hF
  refine ph_enter [pX a0, iX a1, iX a2] (Qc := fun A => va_Qi (GQi g Q) (CB D dA ad A) A) (by decide +kernel) (Nat.le_of_ble_eq_true rfl) ?_
  intro p e s m args below meth c A ls X hP hl hnm
  have hl : LH ad ls 6 [(0, pX a0), (1, iX a1), (2, iX a2)] := hl
  refine ph_aload_n (n := 0) X hl dX7_wakes_0 rfl rfl ?_
  obtain ⟨hm28, hF⟩ := hF
  refine cg_getr 6 1 X in_X7 hP hm28 q718 dX7_wakes_1 ?_
  obtain ⟨hm29, hF⟩ := hF
  refine cg_getrN 5 0 X in_X6 hP hm29 q581 dX7_wakes_4 ?_
  refine ph_iload_n (n := 1) X hl dX7_wakes_7 rfl rfl ?_
  obtain ⟨hm30, hF⟩ := hF
  obtain ⟨hr31, hF⟩ := hF
  refine cg_iald X hP hm30 hr31 (k := a1.toNatClampNeg) rfl dX7_wakes_8 ?_
  refine ph_istore_n X hl dX7_wakes_9 rfl (by decide) rfl (fun ls hl => ?_)
  refine ph_aload_n (n := 1) X hl dX7_wakes_10 rfl rfl ?_
  refine cg_getr 6 0 X in_X7 hP hm28 q717 dX7_wakes_11 ?_
  obtain ⟨hm32, hF⟩ := hF
  refine cg_getrN 2 6 X in_X2 hP hm32 q537 dX7_wakes_14 ?_
  refine ph_iload_n (n := 0) X hl dX7_wakes_17 rfl rfl ?_
  obtain ⟨hm36, hF⟩ := hF
  refine cg_callVq 17 [iX (ι (gR g (gR g a0 1) 0) a1.toNatClampNeg)] X hP hm36 (met_J2_get l D dA ad g _ _ hF) (cwV 1 X.2.2.2.2.1 (lw_V q985 q778 q779 q102 q780) rfl rfl rfl (by decide +kernel) ⟨Nat.le_of_ble_eq_true rfl, Nat.le_of_ble_eq_true rfl⟩) rfl hl (k8 := 0) (cs0 (k := 0)) (by decide) ⟨Nat.le_refl _, Nat.le_refl _⟩ dX7_wakes_18 rfl (fun r33 ι34 H locs hF hv35 hP => ?_)
  obtain ⟨hm37, hF⟩ := hF
  refine cg_castSl X hP hm37 q986 dX7_wakes_21 ?_
  refine ph_astore X hl dX7_wakes_24 (by decide) rfl (fun ls hl => ?_)
  refine ph_aload_n (n := 2) X hl dX7_wakes_26 rfl rfl ?_
  refine cg_getr 6 0 X in_X7 hP hm28 q717 dX7_wakes_27 ?_
  refine cg_getrN 2 8 X in_X2 hP hm32 q543 dX7_wakes_30 ?_
  refine cg_ifnonnull (tgt := 51) X dX7_wakes_33 (by decide) (fun c56 => ?_) (fun c56 => ?_)
  · have hF := hF.1 c56
    refine ph_aload_n (n := 2) X hl dX7_wakes_51 rfl rfl ?_
    refine cg_getr 6 0 X in_X7 hP hm28 q717 dX7_wakes_52 ?_
    refine cg_getrN 2 9 X in_X2 hP hm32 q546 dX7_wakes_55 ?_
    refine ph_astore X hl dX7_wakes_58 (by decide) rfl (fun ls hl => ?_)
    refine ph_aload (n := 0) X hl dX7_wakes_60 rfl ?_
    refine cg_getsV (k := 0) X hP (by decide) rfl q1028 dX7_wakes_62 ?_
    refine ph_aload (n := 1) X hl dX7_wakes_65 rfl ?_
    refine cg_getSl 2 X hP hm37 q1494 dX7_wakes_67 ?_
    obtain ⟨hm41, hF⟩ := hF
    refine cg_callVv 3 [pX 105, iX (ι34 r33 2)] X hP hm41 (met_X3_sees l D dA ad g _ _ hF) (cwV 2 X.2.2.2.2.1 (lw_V q1030 q1031 q1032 q119 q1033) rfl rfl rfl (by decide +kernel) ⟨Nat.le_of_ble_eq_true rfl, Nat.le_of_ble_eq_true rfl⟩) rfl hl (k8 := 0) (cs0 (k := 0)) (by decide) ⟨Nat.le_refl _, Nat.le_refl _⟩ dX7_wakes_70 rfl (fun ι39 H locs hF hP => ?_)
    refine ph_aload (n := 0) X hl dX7_wakes_73 rfl ?_
    refine cg_getsV (k := 1) X hP (by decide) rfl q1040 dX7_wakes_75 ?_
    refine ph_iload_n (n := 5) X hl dX7_wakes_78 rfl rfl ?_
    refine cg_callVv 3 [pX 106, iX a2] X hP hm41 (met_X3_sees l D dA ad g _ _ hF) (cwV 2 X.2.2.2.2.1 (lw_V q1030 q1031 q1032 q119 q1033) rfl rfl rfl (by decide +kernel) ⟨Nat.le_of_ble_eq_true rfl, Nat.le_of_ble_eq_true rfl⟩) rfl hl (k8 := 0) (cs0 (k := 0)) (by decide) ⟨Nat.le_refl _, Nat.le_refl _⟩ dX7_wakes_79 rfl (fun ι43 H locs hF hP => ?_)
    refine ph_aload (n := 0) X hl dX7_wakes_82 rfl ?_
    refine cg_getsV (k := 2) X hP (by decide) rfl q1042 dX7_wakes_84 ?_
    refine ph_aload_n (n := 3) X hl dX7_wakes_87 rfl rfl ?_
    refine cg_geti 6 11 X in_X7 hP hm28 q731 dX7_wakes_88 ?_
    refine cg_callVv 3 [pX 107, iX (ι43 a0 11)] X hP hm41 (met_X3_sees l D dA ad g _ _ hF) (cwV 2 X.2.2.2.2.1 (lw_V q1030 q1031 q1032 q119 q1033) rfl rfl rfl (by decide +kernel) ⟨Nat.le_of_ble_eq_true rfl, Nat.le_of_ble_eq_true rfl⟩) rfl hl (k8 := 0) (cs0 (k := 0)) (by decide) ⟨Nat.le_refl _, Nat.le_refl _⟩ dX7_wakes_91 rfl (fun ι46 H locs hF hP => ?_)
    refine ph_aload (n := 0) X hl dX7_wakes_94 rfl ?_
    refine cg_getsV (k := 3) X hP (by decide) rfl q1044 dX7_wakes_96 ?_
    refine ph_aload_n (n := 3) X hl dX7_wakes_99 rfl rfl ?_
    refine cg_geti 6 14 X in_X7 hP hm28 q736 dX7_wakes_100 ?_
    refine lv_bipush (v := 60) X.1 X.2.1 dX7_wakes_103 (by decide) ?_
    refine lv_idiv X.1 X.2.1 dX7_wakes_105 (by decide) ?_
    refine cg_callVv 3 [pX 108, iX ((ι46 a0 14) / 60)] X hP hm41 (met_X3_sees l D dA ad g _ _ hF) (cwV 2 X.2.2.2.2.1 (lw_V q1030 q1031 q1032 q119 q1033) rfl rfl rfl (by decide +kernel) ⟨Nat.le_of_ble_eq_true rfl, Nat.le_of_ble_eq_true rfl⟩) rfl hl (k8 := 0) (cs0 (k := 0)) (by decide) ⟨Nat.le_refl _, Nat.le_refl _⟩ dX7_wakes_106 rfl (fun ι49 H locs hF hP => ?_)
    refine ph_aload (n := 0) X hl dX7_wakes_109 rfl ?_
    refine cg_getsV (k := 4) X hP (by decide) rfl q1046 dX7_wakes_111 ?_
    refine ph_aload_n (n := 3) X hl dX7_wakes_114 rfl rfl ?_
    refine ph_iload_n (n := 4) X hl dX7_wakes_115 rfl rfl ?_
    refine lv_iconst (v := 1) X.1 X.2.1 dX7_wakes_116 (by decide) ?_
    refine lv_isub X.1 X.2.1 dX7_wakes_117 ?_
    refine cg_callVi 6 [iX (a1 - 1)] X hP hm28 (met_X7_isSnorer l D dA ad g _ _ hF) (cwV 1 X.2.2.2.2.1 (lw_V q1048 q1050 qs17 q124 q1051) rfl rfl rfl (by decide +kernel) ⟨Nat.le_of_ble_eq_true rfl, Nat.le_of_ble_eq_true rfl⟩) rfl hl (k8 := 2) (csr (csr (cs0 (k := 0)))) (by decide) ⟨Nat.le_refl _, Nat.le_refl _⟩ dX7_wakes_118 rfl (fun r51 ι52 H locs hF hP => ?_)
    refine lv_if_eq (tgt := 128) X.1 X.2.1 dX7_wakes_121 (by decide) (fun c54 => ?_) (fun c54 => ?_)
    · have hF := hF.1 c54
      refine lv_iconst (v := 0) X.1 X.2.1 dX7_wakes_128 (by decide) ?_
      exact w_X7_wakes_129 X _ _ _ _ _ _ _ _ _ _ _ hF hP (lh_sub hl [3, 4, 2, 0] rfl)
    · have hF := hF.2 c54
      refine lv_iconst (v := 1) X.1 X.2.1 dX7_wakes_124 (by decide) ?_
      refine lv_goto (tgt := 129) X.1 X.2.1 dX7_wakes_125 (by decide) ?_
      exact w_X7_wakes_129 X _ _ _ _ _ _ _ _ _ _ _ hF hP (lh_sub hl [3, 4, 2, 0] rfl)
  · have hF := hF.2 c56
    refine ph_iload_n (n := 4) X hl dX7_wakes_36 rfl rfl ?_
    refine ph_aload (n := 0) X hl dX7_wakes_37 rfl ?_
    refine cg_getSl 2 X hP hm37 q1494 dX7_wakes_39 ?_
    refine lv_icmp_gt (tgt := 49) X.1 X.2.1 dX7_wakes_42 (by decide) (fun c55 => ?_) (fun c55 => ?_)
    · have hF := hF.1 c55
      refine lv_iconst (v := 0) X.1 X.2.1 dX7_wakes_49 (by decide) ?_
      exact cg_zret X hP isB_0 hF dX7_wakes_50
    · have hF := hF.2 c55
      refine lv_iconst (v := 1) X.1 X.2.1 dX7_wakes_45 (by decide) ?_
      refine lv_goto (tgt := 50) X.1 X.2.1 dX7_wakes_46 (by decide) ?_
      exact cg_zret X hP isB_1 hF dX7_wakes_50
def P_X7_turn_248 (g : GT) (Q : S → Prop) (x0 : Nat) (x3 : Int32) (ι : S) : Prop := (gK g x0 = 7 ∧ (gK g (gR g x0 6) = 100 ∧ (vp_in x3 (gL g (gR g x0 6)) ∧ (vp_in x3 (gL g (gR g x0 6)) ∧ (∀ ι4, ι4 = up2 ι (gR g x0 6) x3.toNatClampNeg ((ι (gR g x0 6) x3.toNatClampNeg) + 1) → (∀ ι6, ι6 = up2 ι4 x0 11 ((ι4 x0 11) + 1) → (∀ ι7, ι7 = up2 ι6 x0 13 (-1) → (Q ι7))))))))
def P_X7_turn_247 (g : GT) (Q : S → Prop) (y0 : Nat) (y1 : Int32) (y2 : Int32) (x0 : Nat) (x3 : Int32) (ι : S) : Prop := (gK g y0 = 100 ∧ (vp_in y1 (gL g y0) ∧ (∀ ι9, ι9 = up2 ι y0 y1.toNatClampNeg y2 → (P_X7_turn_248 g Q x0 x3 ι9))))
def P_X7_turn_94 (g : GT) (Q : S → Prop) : Nat → Nat → Int32 → Int32 → Int32 → Int32 → Int32 → Int32 → S → Prop
  | 0, _, _, _, _, _, _, _, _ => False
  | n + 1, x0, x2, x3, x4, x5, x6, x7, ι => ((x2 ≤ x7 → (gK g x0 = 7 ∧ (gK g (gR g x0 7) = 100 ∧ (((nI (gL g (gR g x0 7))) ≤ (ι x0 11) → (P_X7_turn_248 g Q x0 x3 ι)) ∧ (¬ (nI (gL g (gR g x0 7))) ≤ (ι x0 11) → (vp_in (ι x0 11) (gL g (gR g x0 7)) ∧ (∀ ι13, ι13 = up2 ι (gR g x0 7) ((ι x0 11).toNatClampNeg) (ι x0 14) → (gK g (gR g x0 8) = 100 ∧ (vp_in (ι13 x0 11) (gL g (gR g x0 8)) ∧ (∀ ι16, ι16 = up2 ι13 (gR g x0 8) ((ι13 x0 11).toNatClampNeg) x3 → (gK g (gR g x0 9) = 100 ∧ (vp_in (ι16 x0 11) (gL g (gR g x0 9)) ∧ (∀ ι19, ι19 = up2 ι16 (gR g x0 9) ((ι16 x0 11).toNatClampNeg) x6 → ((x4 = 0 → (P_X7_turn_247 g Q (gR g x0 10) (ι19 x0 11) 0 x0 x3 ι19)) ∧ (¬ x4 = 0 → (P_X7_turn_247 g Q (gR g x0 10) (ι19 x0 11) 1 x0 x3 ι19)))))))))))))))) ∧ (¬ x2 ≤ x7 → (gK g x0 = 7 ∧ (gK g (gR g x0 1) = 6 ∧ (gK g (gR g (gR g x0 1) 0) = 100 ∧ (vp_in x7 (gL g (gR g (gR g x0 1) 0)) ∧ (((ι (gR g (gR g x0 1) 0) x7.toNatClampNeg) = x3 → (P_X7_turn_94 g Q  n x0 x2 x3 x4 x5 x6 (x7 + 1) ι)) ∧ (¬ (ι (gR g (gR g x0 1) 0) x7.toNatClampNeg) = x3 → (gK g (gR g x0 0) = 3 ∧ (gK g (gR g (gR g x0 0) 6) = 18 ∧ (P_J2_get g (gR g (gR g x0 0) 6) (ι (gR g (gR g x0 1) 0) x7.toNatClampNeg) ι (fun r28 ι29 => (isSl (gK g r28) ∧ (((slWoken (gK g r28)) = 0 → (P_X7_turn_94 g Q  n x0 x2 x3 x4 x5 x6 (x7 + 1) ι29)) ∧ (¬ (slWoken (gK g r28)) = 0 → (P_X7_isAwake g x0 (ι (gR g (gR g x0 1) 0) x7.toNatClampNeg) ι29 (fun r36 ι37 => ((¬ r36 = 0 → (P_X7_turn_94 g Q  n x0 x2 x3 x4 x5 x6 (x7 + 1) ι37)) ∧ (r36 = 0 → (P_X7_wakes g x0 x7 (if 0 ≤ (x7 - x5) then x7 - x5 else 0 - (x7 - x5)) ι37 (fun r39 ι40 => ((¬ r39 = 0 → (P_X7_wake g x0 (ι (gR g (gR g x0 1) 0) x7.toNatClampNeg) ι40 (fun ι43 => (P_X7_turn_94 g Q  n x0 x2 x3 x4 x5 (x6 + 1) (x7 + 1) ι43)))) ∧ (r39 = 0 → (P_X7_turn_94 g Q  n x0 x2 x3 x4 x5 x6 (x7 + 1) ι40))))))))))))))))))))))))
def P_X7_turn_3 (g : GT) (Q : S → Prop) : Nat → Nat → Int32 → Int32 → Int32 → Int32 → Int32 → S → Prop
  | 0, _, _, _, _, _, _, _ => False
  | n + 1, x0, x1, x2, x3, x4, x5, ι => ((x2 ≤ x5 → (gK g x0 = 7 ∧ (gK g (gR g x0 1) = 6 ∧ (P_X6_placeOf g (gR g x0 1) x3 ι (fun r51 ι52 => (∃ n9, P_X7_turn_94 g Q n9 x0 x2 x3 x4 r51 0 x1 ι52)))))) ∧ (¬ x2 ≤ x5 → (gK g x0 = 7 ∧ (gK g (gR g x0 1) = 6 ∧ (gK g (gR g (gR g x0 1) 0) = 100 ∧ (vp_in x5 (gL g (gR g (gR g x0 1) 0)) ∧ (gK g (gR g x0 0) = 3 ∧ (gK g (gR g (gR g x0 0) 6) = 18 ∧ (P_J2_get g (gR g (gR g x0 0) 6) (ι (gR g (gR g x0 1) 0) x5.toNatClampNeg) ι (fun r60 ι61 => (isSl (gK g r60) ∧ ((¬ (slTurned (gK g r60)) = 0 → (gK g (gR g x0 2) = 100 ∧ (vp_in (ι (gR g (gR g x0 1) 0) x5.toNatClampNeg) (gL g (gR g x0 2)) ∧ (vp_in (ι (gR g (gR g x0 1) 0) x5.toNatClampNeg) (gL g (gR g x0 2)) ∧ (∀ ι70, ι70 = up2 ι61 (gR g x0 2) ((ι (gR g (gR g x0 1) 0) x5.toNatClampNeg).toNatClampNeg) (1 - (ι61 (gR g x0 2) ((ι (gR g (gR g x0 1) 0) x5.toNatClampNeg).toNatClampNeg))) → (gK g (gR g x0 3) = 100 ∧ (vp_in (ι (gR g (gR g x0 1) 0) x5.toNatClampNeg) (gL g (gR g x0 3)) ∧ (∀ ι73, ι73 = up2 ι70 (gR g x0 3) ((ι (gR g (gR g x0 1) 0) x5.toNatClampNeg).toNatClampNeg) (ι70 x0 14) → (P_X7_turn_3 g Q  n x0 x1 x2 x3 x4 (x5 + 1) ι73))))))))) ∧ ((slTurned (gK g r60)) = 0 → (P_X7_turn_3 g Q  n x0 x1 x2 x3 x4 (x5 + 1) ι61))))))))))))))
def P_X7_turn (g : GT) (a0 : Nat) (a1 : Int32) (a2 : Int32) (a3 : Int32) (a4 : Int32) (ι : S) (Q : S → Prop) : Prop := (∃ n9, P_X7_turn_3 g Q n9 a0 a1 a2 a3 a4 a1 ι)
set_option maxHeartbeats 2000000 in
theorem w_X7_turn_248 (X : CX p s m args c meth cX7_turn 9 none RX7 D dA ad A) {Q : S → Prop} : ∀ (x0 : Nat) (x3 : Int32) (ι : S) (H : Heap) (locs : List Loc) (ls : Array Slot), P_X7_turn_248 g Q x0 x3 ι → PW D dA A s.heap ad (HS g ι) H locs → LH ad ls 9 [(0, pX x0), (3, iX x3)] → WGv p l e ({ frames := 2104, cells := 0, slots := 0, locals := 44889 } : Room) s m args below meth c D dA ad A g Q H locs (F0 m 248 ls []) := by
  intro x0 x3 ι H locs ls hF hP hl
  unfold P_X7_turn_248 at hF
  refine ph_aload_n (n := 0) X hl dX7_turn_248 rfl rfl ?_
  obtain ⟨hm1, hF⟩ := hF
  refine cg_getr 6 6 X in_X7 hP hm1 q725 dX7_turn_249 ?_
  refine ph_iload_n (n := 1) X hl dX7_turn_252 rfl rfl ?_
  refine ph_dup2_ir X dX7_turn_253 ?_
  obtain ⟨hm2, hF⟩ := hF
  obtain ⟨hr3, hF⟩ := hF
  refine cg_iald X hP hm2 hr3 (k := x3.toNatClampNeg) rfl dX7_turn_254 ?_
  refine lv_iconst (v := 1) X.1 X.2.1 dX7_turn_255 (by decide) ?_
  refine lv_iadd X.1 X.2.1 dX7_turn_256 ?_
  obtain ⟨hr5, hF⟩ := hF
  refine cg_iast X hP hm2 hr5 (k := x3.toNatClampNeg) rfl dX7_turn_257 hF (fun H locs ι4 hP hF => ?_)
  refine ph_aload_n (n := 0) X hl dX7_turn_258 rfl rfl ?_
  refine ph_dup_r X dX7_turn_259 ?_
  refine cg_geti 6 11 X in_X7 hP hm1 q731 dX7_turn_260 ?_
  refine lv_iconst (v := 1) X.1 X.2.1 dX7_turn_263 (by decide) ?_
  refine lv_iadd X.1 X.2.1 dX7_turn_264 ?_
  refine cg_puti 6 11 X in_X7 tyX7 tyX7_ok nmX7 hP hm1 q731 dX7_turn_265 hF (fun H locs ι6 hP hF => ?_)
  refine ph_aload_n (n := 0) X hl dX7_turn_268 rfl rfl ?_
  refine lv_iconst (v := (-1)) X.1 X.2.1 dX7_turn_269 (by decide) ?_
  refine cg_puti 6 13 X in_X7 tyX7 tyX7_ok nmX7 hP hm1 q735 dX7_turn_270 hF (fun H locs ι7 hP hF => ?_)
  exact cg_vret X hP hF dX7_turn_273
set_option maxHeartbeats 2000000 in
theorem w_X7_turn_247 (X : CX p s m args c meth cX7_turn 9 none RX7 D dA ad A) {Q : S → Prop} : ∀ (y0 : Nat) (y1 : Int32) (y2 : Int32) (x0 : Nat) (x3 : Int32) (ι : S) (H : Heap) (locs : List Loc) (ls : Array Slot), P_X7_turn_247 g Q y0 y1 y2 x0 x3 ι → PW D dA A s.heap ad (HS g ι) H locs → LH ad ls 9 [(0, pX x0), (3, iX x3)] → WGv p l e ({ frames := 2104, cells := 0, slots := 0, locals := 44889 } : Room) s m args below meth c D dA ad A g Q H locs (F0 m 247 ls [.int y2, .int y1, rv ad y0]) := by
  intro y0 y1 y2 x0 x3 ι H locs ls hF hP hl
  unfold P_X7_turn_247 at hF
  obtain ⟨hm8, hF⟩ := hF
  obtain ⟨hr10, hF⟩ := hF
  refine cg_iast X hP hm8 hr10 (k := y1.toNatClampNeg) rfl dX7_turn_247 hF (fun H locs ι9 hP hF => ?_)
  exact w_X7_turn_248 X _ _ _ _ _ _ hF hP hl
set_option maxHeartbeats 2000000 in
theorem w_X7_turn_94 (X : CX p s m args c meth cX7_turn 9 none RX7 D dA ad A) {Q : S → Prop} : ∀ (n : Nat) (x0 : Nat) (x2 : Int32) (x3 : Int32) (x4 : Int32) (x5 : Int32) (x6 : Int32) (x7 : Int32) (ι : S) (H : Heap) (locs : List Loc) (ls : Array Slot), P_X7_turn_94 g Q n x0 x2 x3 x4 x5 x6 x7 ι → PW D dA A s.heap ad (HS g ι) H locs → LH ad ls 9 [(0, pX x0), (2, iX x2), (3, iX x3), (4, iX x4), (5, iX x5), (6, iX x6), (7, iX x7)] → WGv p l e ({ frames := 2104, cells := 0, slots := 0, locals := 44889 } : Room) s m args below meth c D dA ad A g Q H locs (F0 m 94 ls []) := by
  intro n
  induction n with
  | zero =>
    intro x0 x2 x3 x4 x5 x6 x7 ι H locs ls hF
    exact hF.elim
  | succ n ih =>
    intro x0 x2 x3 x4 x5 x6 x7 ι H locs ls hF hP hl
    rw [P_X7_turn_94] at hF
    refine ph_iload (n := 6) X hl dX7_turn_94 rfl ?_
    refine ph_iload_n (n := 1) X hl dX7_turn_96 rfl rfl ?_
    refine lv_icmp_ge (tgt := 183) X.1 X.2.1 dX7_turn_97 (by decide) (fun c49 => ?_) (fun c49 => ?_)
    · have hF := hF.1 c49
      refine ph_aload_n (n := 0) X hl dX7_turn_183 rfl rfl ?_
      obtain ⟨hm11, hF⟩ := hF
      refine cg_geti 6 11 X in_X7 hP hm11 q731 dX7_turn_184 ?_
      refine ph_aload_n (n := 0) X hl dX7_turn_187 rfl rfl ?_
      refine cg_getr 6 7 X in_X7 hP hm11 q727 dX7_turn_188 ?_
      obtain ⟨hm12, hF⟩ := hF
      refine cg_alenI X hP hm12 dX7_turn_191 ?_
      refine lv_icmp_ge (tgt := 248) X.1 X.2.1 dX7_turn_192 (by decide) (fun c22 => ?_) (fun c22 => ?_)
      · have hF := hF.1 c22
        exact w_X7_turn_248 X _ _ _ _ _ _ hF hP (lh_sub hl [0, 2] rfl)
      · have hF := hF.2 c22
        refine ph_aload_n (n := 0) X hl dX7_turn_195 rfl rfl ?_
        refine cg_getr 6 7 X in_X7 hP hm11 q727 dX7_turn_196 ?_
        refine ph_aload_n (n := 0) X hl dX7_turn_199 rfl rfl ?_
        refine cg_geti 6 11 X in_X7 hP hm11 q731 dX7_turn_200 ?_
        refine ph_aload_n (n := 0) X hl dX7_turn_203 rfl rfl ?_
        refine cg_geti 6 14 X in_X7 hP hm11 q736 dX7_turn_204 ?_
        obtain ⟨hr14, hF⟩ := hF
        refine cg_iast X hP hm12 hr14 (k := (ι x0 11).toNatClampNeg) rfl dX7_turn_207 hF (fun H locs ι13 hP hF => ?_)
        refine ph_aload_n (n := 0) X hl dX7_turn_208 rfl rfl ?_
        refine cg_getr 6 8 X in_X7 hP hm11 q728 dX7_turn_209 ?_
        refine ph_aload_n (n := 0) X hl dX7_turn_212 rfl rfl ?_
        refine cg_geti 6 11 X in_X7 hP hm11 q731 dX7_turn_213 ?_
        refine ph_iload_n (n := 2) X hl dX7_turn_216 rfl rfl ?_
        obtain ⟨hm15, hF⟩ := hF
        obtain ⟨hr17, hF⟩ := hF
        refine cg_iast X hP hm15 hr17 (k := (ι13 x0 11).toNatClampNeg) rfl dX7_turn_217 hF (fun H locs ι16 hP hF => ?_)
        refine ph_aload_n (n := 0) X hl dX7_turn_218 rfl rfl ?_
        refine cg_getr 6 9 X in_X7 hP hm11 q729 dX7_turn_219 ?_
        refine ph_aload_n (n := 0) X hl dX7_turn_222 rfl rfl ?_
        refine cg_geti 6 11 X in_X7 hP hm11 q731 dX7_turn_223 ?_
        refine ph_iload (n := 5) X hl dX7_turn_226 rfl ?_
        obtain ⟨hm18, hF⟩ := hF
        obtain ⟨hr20, hF⟩ := hF
        refine cg_iast X hP hm18 hr20 (k := (ι16 x0 11).toNatClampNeg) rfl dX7_turn_228 hF (fun H locs ι19 hP hF => ?_)
        refine ph_aload_n (n := 0) X hl dX7_turn_229 rfl rfl ?_
        refine cg_getr 6 10 X in_X7 hP hm11 q730 dX7_turn_230 ?_
        refine ph_aload_n (n := 0) X hl dX7_turn_233 rfl rfl ?_
        refine cg_geti 6 11 X in_X7 hP hm11 q731 dX7_turn_234 ?_
        refine ph_iload (n := 3) X hl dX7_turn_237 rfl ?_
        refine lv_if_eq (tgt := 246) X.1 X.2.1 dX7_turn_239 (by decide) (fun c21 => ?_) (fun c21 => ?_)
        · have hF := hF.1 c21
          refine lv_iconst (v := 0) X.1 X.2.1 dX7_turn_246 (by decide) ?_
          exact w_X7_turn_247 X _ _ _ _ _ _ _ _ _ hF hP (lh_sub hl [0, 2] rfl)
        · have hF := hF.2 c21
          refine lv_iconst (v := 1) X.1 X.2.1 dX7_turn_242 (by decide) ?_
          refine lv_goto (tgt := 247) X.1 X.2.1 dX7_turn_243 (by decide) ?_
          exact w_X7_turn_247 X _ _ _ _ _ _ _ _ _ hF hP (lh_sub hl [0, 2] rfl)
    · have hF := hF.2 c49
      refine ph_aload_n (n := 0) X hl dX7_turn_100 rfl rfl ?_
      obtain ⟨hm23, hF⟩ := hF
      refine cg_getr 6 1 X in_X7 hP hm23 q718 dX7_turn_101 ?_
      obtain ⟨hm24, hF⟩ := hF
      refine cg_getrN 5 0 X in_X6 hP hm24 q581 dX7_turn_104 ?_
      refine ph_iload (n := 6) X hl dX7_turn_107 rfl ?_
      obtain ⟨hm25, hF⟩ := hF
      obtain ⟨hr26, hF⟩ := hF
      refine cg_iald X hP hm25 hr26 (k := x7.toNatClampNeg) rfl dX7_turn_109 ?_
      refine ph_istore X hl dX7_turn_110 (by decide) rfl (fun ls hl => ?_)
      refine ph_iload (n := 0) X hl dX7_turn_112 rfl ?_
      refine ph_iload_n (n := 3) X hl dX7_turn_114 rfl rfl ?_
      refine lv_icmp_eq (tgt := 177) X.1 X.2.1 dX7_turn_115 (by decide) (fun c48 => ?_) (fun c48 => ?_)
      · have hF := hF.1 c48
        refine ph_iinc (v := x7 + 1) (k := 7) X hl dX7_turn_177 rfl rfl (by decide) rfl (fun ls hl => ?_)
        refine lv_goto (tgt := 94) X.1 X.2.1 dX7_turn_180 (by decide) ?_
        exact ih _ _ _ _ _ _ _ _ _ _ _ hF hP (lh_sub hl [2, 3, 4, 5, 6, 7, 0] rfl)
      · have hF := hF.2 c48
        refine ph_aload_n (n := 1) X hl dX7_turn_118 rfl rfl ?_
        refine cg_getr 6 0 X in_X7 hP hm23 q717 dX7_turn_119 ?_
        obtain ⟨hm27, hF⟩ := hF
        refine cg_getrN 2 6 X in_X2 hP hm27 q537 dX7_turn_122 ?_
        refine ph_iload (n := 0) X hl dX7_turn_125 rfl ?_
        obtain ⟨hm31, hF⟩ := hF
        refine cg_callVq 17 [iX (ι (gR g (gR g x0 1) 0) x7.toNatClampNeg)] X hP hm31 (met_J2_get l D dA ad g _ _ hF) (cwV 1 X.2.2.2.2.1 (lw_V q985 q778 q779 q102 q780) rfl rfl rfl (by decide +kernel) ⟨Nat.le_of_ble_eq_true rfl, Nat.le_of_ble_eq_true rfl⟩) rfl hl (k8 := 0) (cs0 (k := 0)) (by decide) ⟨Nat.le_refl _, Nat.le_refl _⟩ dX7_turn_127 rfl (fun r28 ι29 H locs hF hv30 hP => ?_)
        obtain ⟨hm32, hF⟩ := hF
        refine cg_castSl X hP hm32 q986 dX7_turn_130 ?_
        refine cg_v_isWoken X hP hl hm32 q1006 (k8 := 0) (cs0 (k := 0)) (by decide) ⟨Nat.le_of_ble_eq_true rfl, Nat.le_of_ble_eq_true rfl⟩ ⟨Nat.le_refl _, Nat.le_refl _⟩ dX7_turn_133 (fun H locs hP => ?_)
        refine lv_if_eq (tgt := 177) X.1 X.2.1 dX7_turn_136 (by decide) (fun c47 => ?_) (fun c47 => ?_)
        · have hF := hF.1 c47
          refine ph_iinc (v := x7 + 1) (k := 7) X hl dX7_turn_177 rfl rfl (by decide) rfl (fun ls hl => ?_)
          refine lv_goto (tgt := 94) X.1 X.2.1 dX7_turn_180 (by decide) ?_
          exact ih _ _ _ _ _ _ _ _ _ _ _ hF hP (lh_sub hl [2, 3, 4, 5, 6, 7, 0] rfl)
        · have hF := hF.2 c47
          refine ph_aload_n (n := 1) X hl dX7_turn_139 rfl rfl ?_
          refine ph_iload (n := 0) X hl dX7_turn_140 rfl ?_
          refine cg_callVi 6 [iX (ι (gR g (gR g x0 1) 0) x7.toNatClampNeg)] X hP hm23 (met_X7_isAwake l D dA ad g _ _ hF) (cwV 1 X.2.2.2.2.1 (lw_V q1017 q1018 q1019 q124 q1020) rfl rfl rfl (by decide +kernel) ⟨Nat.le_of_ble_eq_true rfl, Nat.le_of_ble_eq_true rfl⟩) rfl hl (k8 := 0) (cs0 (k := 0)) (by decide) ⟨Nat.le_refl _, Nat.le_refl _⟩ dX7_turn_142 rfl (fun r36 ι37 H locs hF hP => ?_)
          refine lv_if_ne (tgt := 177) X.1 X.2.1 dX7_turn_145 (by decide) (fun c46 => ?_) (fun c46 => ?_)
          · have hF := hF.1 c46
            refine ph_iinc (v := x7 + 1) (k := 7) X hl dX7_turn_177 rfl rfl (by decide) rfl (fun ls hl => ?_)
            refine lv_goto (tgt := 94) X.1 X.2.1 dX7_turn_180 (by decide) ?_
            exact ih _ _ _ _ _ _ _ _ _ _ _ hF hP (lh_sub hl [2, 3, 4, 5, 6, 7, 0] rfl)
          · have hF := hF.2 c46
            refine ph_aload_n (n := 1) X hl dX7_turn_148 rfl rfl ?_
            refine ph_iload (n := 7) X hl dX7_turn_149 rfl ?_
            refine ph_iload (n := 7) X hl dX7_turn_151 rfl ?_
            refine ph_iload (n := 5) X hl dX7_turn_153 rfl ?_
            refine lv_isub X.1 X.2.1 dX7_turn_155 ?_
            refine va_mabs X.1 X.2.1 (X.2.2.1.trans hl.1.symm) X.2.2.2.1 (X.2.2.2.2.1 _ q1021) (X.2.2.2.2.1 _ q1022) (X.2.2.2.2.1 _ q112) (X.2.2.2.2.1 _ q1023) (Nat.le_of_ble_eq_true rfl) (Nat.le_trans (Nat.add_le_add_right (csi (csr (cs0 (k := 0)))) 13) (Nat.le_of_ble_eq_true rfl)) (Nat.le_refl _) (Nat.le_refl _) dX7_turn_156 ?_
            refine cg_callVi 6 [iX x7, iX (if 0 ≤ (x7 - x5) then x7 - x5 else 0 - (x7 - x5))] X hP hm23 (met_X7_wakes l D dA ad g _ _ hF) (cwV 2 X.2.2.2.2.1 (lw_V q1024 q1026 qs16 q124 q1027) rfl rfl rfl (by decide +kernel) ⟨Nat.le_of_ble_eq_true rfl, Nat.le_of_ble_eq_true rfl⟩) rfl hl (k8 := 0) (cs0 (k := 0)) (by decide) ⟨Nat.le_refl _, Nat.le_refl _⟩ dX7_turn_159 rfl (fun r39 ι40 H locs hF hP => ?_)
            refine lv_if_ne (tgt := 168) X.1 X.2.1 dX7_turn_162 (by decide) (fun c45 => ?_) (fun c45 => ?_)
            · have hF := hF.1 c45
              refine ph_aload_n (n := 1) X hl dX7_turn_168 rfl rfl ?_
              refine ph_iload (n := 0) X hl dX7_turn_169 rfl ?_
              refine cg_callVv 6 [iX (ι (gR g (gR g x0 1) 0) x7.toNatClampNeg)] X hP hm23 (met_X7_wake l D dA ad g _ _ hF) (cwV 1 X.2.2.2.2.1 (lw_V q1086 q1088 qs18 q124 q1089) rfl rfl rfl (by decide +kernel) ⟨Nat.le_of_ble_eq_true rfl, Nat.le_of_ble_eq_true rfl⟩) rfl hl (k8 := 0) (cs0 (k := 0)) (by decide) ⟨Nat.le_refl _, Nat.le_refl _⟩ dX7_turn_171 rfl (fun ι43 H locs hF hP => ?_)
              refine ph_iinc (v := x6 + 1) (k := 6) X hl dX7_turn_174 rfl rfl (by decide) rfl (fun ls hl => ?_)
              refine ph_iinc (v := x7 + 1) (k := 7) X hl dX7_turn_177 rfl rfl (by decide) rfl (fun ls hl => ?_)
              refine lv_goto (tgt := 94) X.1 X.2.1 dX7_turn_180 (by decide) ?_
              exact ih _ _ _ _ _ _ _ _ _ _ _ hF hP (lh_sub hl [3, 4, 5, 6, 7, 1, 0] rfl)
            · have hF := hF.2 c45
              refine lv_goto (tgt := 177) X.1 X.2.1 dX7_turn_165 (by decide) ?_
              refine ph_iinc (v := x7 + 1) (k := 7) X hl dX7_turn_177 rfl rfl (by decide) rfl (fun ls hl => ?_)
              refine lv_goto (tgt := 94) X.1 X.2.1 dX7_turn_180 (by decide) ?_
              exact ih _ _ _ _ _ _ _ _ _ _ _ hF hP (lh_sub hl [2, 3, 4, 5, 6, 7, 0] rfl)
set_option maxHeartbeats 2000000 in
theorem w_X7_turn_3 (X : CX p s m args c meth cX7_turn 9 none RX7 D dA ad A) {Q : S → Prop} : ∀ (n : Nat) (x0 : Nat) (x1 : Int32) (x2 : Int32) (x3 : Int32) (x4 : Int32) (x5 : Int32) (ι : S) (H : Heap) (locs : List Loc) (ls : Array Slot), P_X7_turn_3 g Q n x0 x1 x2 x3 x4 x5 ι → PW D dA A s.heap ad (HS g ι) H locs → LH ad ls 9 [(0, pX x0), (1, iX x1), (2, iX x2), (3, iX x3), (4, iX x4), (5, iX x5)] → WGv p l e ({ frames := 2104, cells := 0, slots := 0, locals := 44889 } : Room) s m args below meth c D dA ad A g Q H locs (F0 m 3 ls []) := by
  intro n
  induction n with
  | zero =>
    intro x0 x1 x2 x3 x4 x5 ι H locs ls hF
    exact hF.elim
  | succ n ih =>
    intro x0 x1 x2 x3 x4 x5 ι H locs ls hF hP hl
    rw [P_X7_turn_3] at hF
    refine ph_iload (n := 5) X hl dX7_turn_3 rfl ?_
    refine ph_iload_n (n := 2) X hl dX7_turn_5 rfl rfl ?_
    refine lv_icmp_ge (tgt := 78) X.1 X.2.1 dX7_turn_6 (by decide) (fun c76 => ?_) (fun c76 => ?_)
    · have hF := hF.1 c76
      refine ph_aload_n (n := 0) X hl dX7_turn_78 rfl rfl ?_
      obtain ⟨hm50, hF⟩ := hF
      refine cg_getr 6 1 X in_X7 hP hm50 q718 dX7_turn_79 ?_
      refine ph_iload_n (n := 3) X hl dX7_turn_82 rfl rfl ?_
      obtain ⟨hm54, hF⟩ := hF
      refine cg_callVi 5 [iX x3] X hP hm54 (met_X6_placeOf l D dA ad g _ _ hF) (cwV 1 X.2.2.2.2.1 (lw_V q1002 q1003 q1004 q123 q1005) rfl rfl rfl (by decide +kernel) ⟨Nat.le_of_ble_eq_true rfl, Nat.le_of_ble_eq_true rfl⟩) rfl hl (k8 := 0) (cs0 (k := 0)) (by decide) ⟨Nat.le_refl _, Nat.le_refl _⟩ dX7_turn_83 rfl (fun r51 ι52 H locs hF hP => ?_)
      refine ph_istore X hl dX7_turn_86 (by decide) rfl (fun ls hl => ?_)
      refine lv_iconst (v := 0) X.1 X.2.1 dX7_turn_88 (by decide) ?_
      refine ph_istore X hl dX7_turn_89 (by decide) rfl (fun ls hl => ?_)
      refine ph_iload_n (n := 3) X hl dX7_turn_91 rfl rfl ?_
      refine ph_istore X hl dX7_turn_92 (by decide) rfl (fun ls hl => ?_)
      obtain ⟨n9, hF⟩ := hF
      exact w_X7_turn_94 X n9 _ _ _ _ _ _ _ _ _ _ _ hF hP (lh_sub hl [3, 5, 6, 7, 2, 1, 0] rfl)
    · have hF := hF.2 c76
      refine ph_aload_n (n := 0) X hl dX7_turn_9 rfl rfl ?_
      obtain ⟨hm55, hF⟩ := hF
      refine cg_getr 6 1 X in_X7 hP hm55 q718 dX7_turn_10 ?_
      obtain ⟨hm56, hF⟩ := hF
      refine cg_getrN 5 0 X in_X6 hP hm56 q581 dX7_turn_13 ?_
      refine ph_iload (n := 5) X hl dX7_turn_16 rfl ?_
      obtain ⟨hm57, hF⟩ := hF
      obtain ⟨hr58, hF⟩ := hF
      refine cg_iald X hP hm57 hr58 (k := x5.toNatClampNeg) rfl dX7_turn_18 ?_
      refine ph_istore X hl dX7_turn_19 (by decide) rfl (fun ls hl => ?_)
      refine ph_aload_n (n := 1) X hl dX7_turn_21 rfl rfl ?_
      refine cg_getr 6 0 X in_X7 hP hm55 q717 dX7_turn_22 ?_
      obtain ⟨hm59, hF⟩ := hF
      refine cg_getrN 2 6 X in_X2 hP hm59 q537 dX7_turn_25 ?_
      refine ph_iload (n := 0) X hl dX7_turn_28 rfl ?_
      obtain ⟨hm63, hF⟩ := hF
      refine cg_callVq 17 [iX (ι (gR g (gR g x0 1) 0) x5.toNatClampNeg)] X hP hm63 (met_J2_get l D dA ad g _ _ hF) (cwV 1 X.2.2.2.2.1 (lw_V q985 q778 q779 q102 q780) rfl rfl rfl (by decide +kernel) ⟨Nat.le_of_ble_eq_true rfl, Nat.le_of_ble_eq_true rfl⟩) rfl hl (k8 := 0) (cs0 (k := 0)) (by decide) ⟨Nat.le_refl _, Nat.le_refl _⟩ dX7_turn_30 rfl (fun r60 ι61 H locs hF hv62 hP => ?_)
      obtain ⟨hm64, hF⟩ := hF
      refine cg_castSl X hP hm64 q986 dX7_turn_33 ?_
      refine cg_v_isTurned X hP hl hm64 q987 (k8 := 0) (cs0 (k := 0)) (by decide) ⟨Nat.le_of_ble_eq_true rfl, Nat.le_of_ble_eq_true rfl⟩ ⟨Nat.le_refl _, Nat.le_refl _⟩ dX7_turn_36 (fun H locs hP => ?_)
      refine lv_if_ne (tgt := 45) X.1 X.2.1 dX7_turn_39 (by decide) (fun c75 => ?_) (fun c75 => ?_)
      · have hF := hF.1 c75
        refine ph_aload_n (n := 1) X hl dX7_turn_45 rfl rfl ?_
        refine cg_getr 6 2 X in_X7 hP hm55 q719 dX7_turn_46 ?_
        refine ph_iload (n := 0) X hl dX7_turn_49 rfl ?_
        refine lv_iconst (v := 1) X.1 X.2.1 dX7_turn_51 (by decide) ?_
        refine ph_aload_n (n := 1) X hl dX7_turn_52 rfl rfl ?_
        refine cg_getr 6 2 X in_X7 hP hm55 q719 dX7_turn_53 ?_
        refine ph_iload (n := 0) X hl dX7_turn_56 rfl ?_
        obtain ⟨hm68, hF⟩ := hF
        obtain ⟨hr69, hF⟩ := hF
        refine cg_iald X hP hm68 hr69 (k := (ι (gR g (gR g x0 1) 0) x5.toNatClampNeg).toNatClampNeg) rfl dX7_turn_58 ?_
        refine lv_isub X.1 X.2.1 dX7_turn_59 ?_
        obtain ⟨hr71, hF⟩ := hF
        refine cg_iast X hP hm68 hr71 (k := (ι (gR g (gR g x0 1) 0) x5.toNatClampNeg).toNatClampNeg) rfl dX7_turn_60 hF (fun H locs ι70 hP hF => ?_)
        refine ph_aload_n (n := 1) X hl dX7_turn_61 rfl rfl ?_
        refine cg_getr 6 3 X in_X7 hP hm55 q721 dX7_turn_62 ?_
        refine ph_iload (n := 0) X hl dX7_turn_65 rfl ?_
        refine ph_aload_n (n := 1) X hl dX7_turn_67 rfl rfl ?_
        refine cg_geti 6 14 X in_X7 hP hm55 q736 dX7_turn_68 ?_
        obtain ⟨hm72, hF⟩ := hF
        obtain ⟨hr74, hF⟩ := hF
        refine cg_iast X hP hm72 hr74 (k := (ι (gR g (gR g x0 1) 0) x5.toNatClampNeg).toNatClampNeg) rfl dX7_turn_71 hF (fun H locs ι73 hP hF => ?_)
        refine ph_iinc (v := x5 + 1) (k := 6) X hl dX7_turn_72 rfl rfl (by decide) rfl (fun ls hl => ?_)
        refine lv_goto (tgt := 3) X.1 X.2.1 dX7_turn_75 (by decide) ?_
        exact ih _ _ _ _ _ _ _ _ _ _ hF hP (lh_sub hl [2, 3, 4, 5, 6, 0] rfl)
      · have hF := hF.2 c75
        refine lv_goto (tgt := 72) X.1 X.2.1 dX7_turn_42 (by decide) ?_
        refine ph_iinc (v := x5 + 1) (k := 6) X hl dX7_turn_72 rfl rfl (by decide) rfl (fun ls hl => ?_)
        refine lv_goto (tgt := 3) X.1 X.2.1 dX7_turn_75 (by decide) ?_
        exact ih _ _ _ _ _ _ _ _ _ _ hF hP (lh_sub hl [2, 3, 4, 5, 6, 0] rfl)
set_option maxHeartbeats 2000000 in
theorem met_X7_turn (l : Launch) (D : va_G) (dA : Nat → ClassId) (ad : Nat → Nat) (g : GT) (ι : S) (sz : Nat) {a0 : Nat} {a1 : Int32} {a2 : Int32} {a3 : Int32} {a4 : Int32} {Q : S → Prop} (hF : P_X7_turn g a0 a1 a2 a3 a4 ι Q) : CGv l yX7_turn cX7_turn 9 ({ frames := 2104, cells := 0, slots := 0, locals := 44889 } : Room) D dA ad g ι sz [pX a0, iX a1, iX a2, iX a3, iX a4] Q := by
  unfold P_X7_turn at hF
  refine ph_enter [pX a0, iX a1, iX a2, iX a3, iX a4] (Qc := fun A => va_Qv (GQv g Q) (CB D dA ad A) A) (by decide +kernel) (Nat.le_of_ble_eq_true rfl) ?_
  intro p e s m args below meth c A ls X hP hl hnm
  have hl : LH ad ls 9 [(0, pX a0), (1, iX a1), (2, iX a2), (3, iX a3), (4, iX a4)] := hl
  refine ph_iload_n (n := 1) X hl dX7_turn_0 rfl rfl ?_
  refine ph_istore X hl dX7_turn_1 (by decide) rfl (fun ls hl => ?_)
  obtain ⟨n9, hF⟩ := hF
  exact w_X7_turn_3 X n9 _ _ _ _ _ _ _ _ _ _ hF hP (lh_sub hl [1, 2, 3, 4, 5, 0] rfl)
def P_X7_sore_2 (g : GT) (Q : Int32 → S → Prop) : Nat → Nat → Int32 → Int32 → S → Prop
  | 0, _, _, _, _ => False
  | n + 1, x0, x2, x3, ι => ((x2 ≤ x3 → (Q (-1) ι)) ∧ (¬ x2 ≤ x3 → (gK g x0 = 7 ∧ (gK g (gR g x0 1) = 6 ∧ (gK g (gR g (gR g x0 1) 0) = 100 ∧ (vp_in x3 (gL g (gR g (gR g x0 1) 0)) ∧ (gK g (gR g x0 0) = 3 ∧ (gK g (gR g (gR g x0 0) 6) = 18 ∧ (P_J2_get g (gR g (gR g x0 0) 6) (ι (gR g (gR g x0 1) 0) x3.toNatClampNeg) ι (fun r6 ι7 => (isSl (gK g r6) ∧ (gK g (gR g x0 2) = 100 ∧ (vp_in (ι (gR g (gR g x0 1) 0) x3.toNatClampNeg) (gL g (gR g x0 2)) ∧ (gK g (gR g x0 3) = 100 ∧ (vp_in (ι (gR g (gR g x0 1) 0) x3.toNatClampNeg) (gL g (gR g x0 3)) ∧ (((slSore (gK g r6) (ι7 r6) (ι7 (gR g x0 2) ((ι (gR g (gR g x0 1) 0) x3.toNatClampNeg).toNatClampNeg)) ((ι7 x0 14) - (ι7 (gR g x0 3) ((ι (gR g (gR g x0 1) 0) x3.toNatClampNeg).toNatClampNeg)))) = 0 → (P_X7_sore_2 g Q  n x0 x2 (x3 + 1) ι7)) ∧ (¬ (slSore (gK g r6) (ι7 r6) (ι7 (gR g x0 2) ((ι (gR g (gR g x0 1) 0) x3.toNatClampNeg).toNatClampNeg)) ((ι7 x0 14) - (ι7 (gR g x0 3) ((ι (gR g (gR g x0 1) 0) x3.toNatClampNeg).toNatClampNeg)))) = 0 → (Q (ι (gR g (gR g x0 1) 0) x3.toNatClampNeg) ι7))))))))))))))))))
def P_X7_sore (g : GT) (a0 : Nat) (a1 : Int32) (a2 : Int32) (ι : S) (Q : Int32 → S → Prop) : Prop := (∃ n9, P_X7_sore_2 g Q n9 a0 a2 a1 ι)
set_option maxHeartbeats 2000000 in
theorem w_X7_sore_2 (X : CX p s m args c meth cX7_sore 5 (some .int) RX7 D dA ad A) {Q : Int32 → S → Prop} : ∀ (n : Nat) (x0 : Nat) (x2 : Int32) (x3 : Int32) (ι : S) (H : Heap) (locs : List Loc) (ls : Array Slot), P_X7_sore_2 g Q n x0 x2 x3 ι → PW D dA A s.heap ad (HS g ι) H locs → LH ad ls 5 [(0, pX x0), (2, iX x2), (3, iX x3)] → WGi p l e ({ frames := 3, cells := 0, slots := 0, locals := 80 } : Room) s m args below meth c D dA ad A g Q H locs (F0 m 2 ls []) := by
  intro n
  induction n with
  | zero =>
    intro x0 x2 x3 ι H locs ls hF
    exact hF.elim
  | succ n ih =>
    intro x0 x2 x3 ι H locs ls hF hP hl
    rw [P_X7_sore_2] at hF
    refine ph_iload_n (n := 2) X hl dX7_sore_2 rfl rfl ?_
    refine ph_iload_n (n := 1) X hl dX7_sore_3 rfl rfl ?_
    refine lv_icmp_ge (tgt := 67) X.1 X.2.1 dX7_sore_4 (by decide) (fun c19 => ?_) (fun c19 => ?_)
    · have hF := hF.1 c19
      refine lv_iconst (v := (-1)) X.1 X.2.1 dX7_sore_67 (by decide) ?_
      exact cg_iret X hP hF dX7_sore_68
    · have hF := hF.2 c19
      refine ph_aload_n (n := 0) X hl dX7_sore_7 rfl rfl ?_
      obtain ⟨hm1, hF⟩ := hF
      refine cg_getr 6 1 X in_X7 hP hm1 q718 dX7_sore_8 ?_
      obtain ⟨hm2, hF⟩ := hF
      refine cg_getrN 5 0 X in_X6 hP hm2 q581 dX7_sore_11 ?_
      refine ph_iload_n (n := 2) X hl dX7_sore_14 rfl rfl ?_
      obtain ⟨hm3, hF⟩ := hF
      obtain ⟨hr4, hF⟩ := hF
      refine cg_iald X hP hm3 hr4 (k := x3.toNatClampNeg) rfl dX7_sore_15 ?_
      refine ph_istore X hl dX7_sore_16 (by decide) rfl (fun ls hl => ?_)
      refine ph_aload_n (n := 1) X hl dX7_sore_18 rfl rfl ?_
      refine cg_getr 6 0 X in_X7 hP hm1 q717 dX7_sore_19 ?_
      obtain ⟨hm5, hF⟩ := hF
      refine cg_getrN 2 6 X in_X2 hP hm5 q537 dX7_sore_22 ?_
      refine ph_iload (n := 0) X hl dX7_sore_25 rfl ?_
      obtain ⟨hm9, hF⟩ := hF
      refine cg_callVq 17 [iX (ι (gR g (gR g x0 1) 0) x3.toNatClampNeg)] X hP hm9 (met_J2_get l D dA ad g _ _ hF) (cwV 1 X.2.2.2.2.1 (lw_V q985 q778 q779 q102 q780) rfl rfl rfl (by decide +kernel) ⟨Nat.le_of_ble_eq_true rfl, Nat.le_of_ble_eq_true rfl⟩) rfl hl (k8 := 0) (cs0 (k := 0)) (by decide) ⟨Nat.le_refl _, Nat.le_refl _⟩ dX7_sore_27 rfl (fun r6 ι7 H locs hF hv8 hP => ?_)
      obtain ⟨hm10, hF⟩ := hF
      refine cg_castSl X hP hm10 q986 dX7_sore_30 ?_
      refine ph_aload_n (n := 1) X hl dX7_sore_33 rfl rfl ?_
      refine cg_getr 6 2 X in_X7 hP hm1 q719 dX7_sore_34 ?_
      refine ph_iload (n := 0) X hl dX7_sore_37 rfl ?_
      obtain ⟨hm11, hF⟩ := hF
      obtain ⟨hr12, hF⟩ := hF
      refine cg_iald X hP hm11 hr12 (k := (ι (gR g (gR g x0 1) 0) x3.toNatClampNeg).toNatClampNeg) rfl dX7_sore_39 ?_
      refine ph_aload_n (n := 1) X hl dX7_sore_40 rfl rfl ?_
      refine cg_geti 6 14 X in_X7 hP hm1 q736 dX7_sore_41 ?_
      refine ph_aload_n (n := 1) X hl dX7_sore_44 rfl rfl ?_
      refine cg_getr 6 3 X in_X7 hP hm1 q721 dX7_sore_45 ?_
      refine ph_iload (n := 0) X hl dX7_sore_48 rfl ?_
      obtain ⟨hm13, hF⟩ := hF
      obtain ⟨hr14, hF⟩ := hF
      refine cg_iald X hP hm13 hr14 (k := (ι (gR g (gR g x0 1) 0) x3.toNatClampNeg).toNatClampNeg) rfl dX7_sore_50 ?_
      refine lv_isub X.1 X.2.1 dX7_sore_51 ?_
      refine cg_v_isSore X hP hl hm10 q1098 (k8 := 0) (cs0 (k := 0)) (by decide) ⟨Nat.le_of_ble_eq_true rfl, Nat.le_of_ble_eq_true rfl⟩ ⟨Nat.le_refl _, Nat.le_refl _⟩ dX7_sore_52 (fun H locs hP => ?_)
      refine lv_if_eq (tgt := 61) X.1 X.2.1 dX7_sore_55 (by decide) (fun c18 => ?_) (fun c18 => ?_)
      · have hF := hF.1 c18
        refine ph_iinc (v := x3 + 1) (k := 3) X hl dX7_sore_61 rfl rfl (by decide) rfl (fun ls hl => ?_)
        refine lv_goto (tgt := 2) X.1 X.2.1 dX7_sore_64 (by decide) ?_
        exact ih _ _ _ _ _ _ _ hF hP (lh_sub hl [2, 3, 0] rfl)
      · have hF := hF.2 c18
        refine ph_iload (n := 0) X hl dX7_sore_58 rfl ?_
        exact cg_iret X hP hF dX7_sore_60
set_option maxHeartbeats 2000000 in
theorem met_X7_sore (l : Launch) (D : va_G) (dA : Nat → ClassId) (ad : Nat → Nat) (g : GT) (ι : S) (sz : Nat) {a0 : Nat} {a1 : Int32} {a2 : Int32} {Q : Int32 → S → Prop} (hF : P_X7_sore g a0 a1 a2 ι Q) : CGi l yX7_sore cX7_sore 5 .int ({ frames := 3, cells := 0, slots := 0, locals := 80 } : Room) D dA ad g ι sz [pX a0, iX a1, iX a2] Q := by
  unfold P_X7_sore at hF
  refine ph_enter [pX a0, iX a1, iX a2] (Qc := fun A => va_Qi (GQi g Q) (CB D dA ad A) A) (by decide +kernel) (Nat.le_of_ble_eq_true rfl) ?_
  intro p e s m args below meth c A ls X hP hl hnm
  have hl : LH ad ls 5 [(0, pX a0), (1, iX a1), (2, iX a2)] := hl
  refine ph_iload_n (n := 1) X hl dX7_sore_0 rfl rfl ?_
  refine ph_istore_n X hl dX7_sore_1 rfl (by decide) rfl (fun ls hl => ?_)
  obtain ⟨n9, hF⟩ := hF
  exact w_X7_sore_2 X n9 _ _ _ _ _ _ _ hF hP (lh_sub hl [1, 3, 0] rfl)
def P_X7_goes_4 (g : GT) (Q : S → Prop) : Nat → Nat → Int32 → S → Prop
  | 0, _, _, _ => False
  | n + 1, x0, x2, ι => (gK g x0 = 7 ∧ (gK g (gR g x0 1) = 6 ∧ (((ι (gR g x0 1) 2) ≤ x2 → (Q ι)) ∧ (¬ (ι (gR g x0 1) 2) ≤ x2 → (gK g (gR g (gR g x0 1) 0) = 100 ∧ (vp_in x2 (gL g (gR g (gR g x0 1) 0)) ∧ (gK g (gR g x0 0) = 3 ∧ (gK g (gR g (gR g x0 0) 6) = 18 ∧ (P_J2_get g (gR g (gR g x0 0) 6) (ι (gR g (gR g x0 1) 0) x2.toNatClampNeg) ι (fun r6 ι7 => (isSl (gK g r6) ∧ (((slWoken (gK g r6)) = 0 → (P_X7_goes_4 g Q  n x0 (x2 + 1) ι7)) ∧ (¬ (slWoken (gK g r6)) = 0 → (P_X7_isAwake g x0 (ι (gR g (gR g x0 1) 0) x2.toNatClampNeg) ι7 (fun r14 ι15 => ((¬ r14 = 0 → (P_X7_goes_4 g Q  n x0 (x2 + 1) ι15)) ∧ (r14 = 0 → (P_X7_wake g x0 (ι (gR g (gR g x0 1) 0) x2.toNatClampNeg) ι15 (fun ι18 => (P_X7_goes_4 g Q  n x0 (x2 + 1) ι18))))))))))))))))))))
def P_X7_goes (g : GT) (a0 : Nat) (a1 : Int32) (ι : S) (Q : S → Prop) : Prop := (∃ n9, P_X7_goes_4 g Q n9 a0 (a1 + 1) ι)
set_option maxHeartbeats 2000000 in
theorem w_X7_goes_4 (X : CX p s m args c meth cX7_goes 4 none RX7 D dA ad A) {Q : S → Prop} : ∀ (n : Nat) (x0 : Nat) (x2 : Int32) (ι : S) (H : Heap) (locs : List Loc) (ls : Array Slot), P_X7_goes_4 g Q n x0 x2 ι → PW D dA A s.heap ad (HS g ι) H locs → LH ad ls 4 [(0, pX x0), (2, iX x2)] → WGv p l e ({ frames := 3, cells := 0, slots := 0, locals := 80 } : Room) s m args below meth c D dA ad A g Q H locs (F0 m 4 ls []) := by
  intro n
  induction n with
  | zero =>
    intro x0 x2 ι H locs ls hF
    exact hF.elim
  | succ n ih =>
    intro x0 x2 ι H locs ls hF hP hl
    rw [P_X7_goes_4] at hF
    refine ph_iload_n (n := 1) X hl dX7_goes_4 rfl rfl ?_
    refine ph_aload_n (n := 0) X hl dX7_goes_5 rfl rfl ?_
    obtain ⟨hm1, hF⟩ := hF
    refine cg_getr 6 1 X in_X7 hP hm1 q718 dX7_goes_6 ?_
    obtain ⟨hm2, hF⟩ := hF
    refine cg_getiN 5 2 X in_X6 hP hm2 q587 dX7_goes_9 ?_
    refine lv_icmp_ge (tgt := 64) X.1 X.2.1 dX7_goes_12 (by decide) (fun c22 => ?_) (fun c22 => ?_)
    · have hF := hF.1 c22
      exact cg_vret X hP hF dX7_goes_64
    · have hF := hF.2 c22
      refine ph_aload_n (n := 0) X hl dX7_goes_15 rfl rfl ?_
      refine cg_getr 6 1 X in_X7 hP hm1 q718 dX7_goes_16 ?_
      refine cg_getrN 5 0 X in_X6 hP hm2 q581 dX7_goes_19 ?_
      refine ph_iload_n (n := 1) X hl dX7_goes_22 rfl rfl ?_
      obtain ⟨hm3, hF⟩ := hF
      obtain ⟨hr4, hF⟩ := hF
      refine cg_iald X hP hm3 hr4 (k := x2.toNatClampNeg) rfl dX7_goes_23 ?_
      refine ph_istore_n X hl dX7_goes_24 rfl (by decide) rfl (fun ls hl => ?_)
      refine ph_aload_n (n := 1) X hl dX7_goes_25 rfl rfl ?_
      refine cg_getr 6 0 X in_X7 hP hm1 q717 dX7_goes_26 ?_
      obtain ⟨hm5, hF⟩ := hF
      refine cg_getrN 2 6 X in_X2 hP hm5 q537 dX7_goes_29 ?_
      refine ph_iload_n (n := 0) X hl dX7_goes_32 rfl rfl ?_
      obtain ⟨hm9, hF⟩ := hF
      refine cg_callVq 17 [iX (ι (gR g (gR g x0 1) 0) x2.toNatClampNeg)] X hP hm9 (met_J2_get l D dA ad g _ _ hF) (cwV 1 X.2.2.2.2.1 (lw_V q985 q778 q779 q102 q780) rfl rfl rfl (by decide +kernel) ⟨Nat.le_of_ble_eq_true rfl, Nat.le_of_ble_eq_true rfl⟩) rfl hl (k8 := 0) (cs0 (k := 0)) (by decide) ⟨Nat.le_refl _, Nat.le_refl _⟩ dX7_goes_33 rfl (fun r6 ι7 H locs hF hv8 hP => ?_)
      obtain ⟨hm10, hF⟩ := hF
      refine cg_castSl X hP hm10 q986 dX7_goes_36 ?_
      refine cg_v_isWoken X hP hl hm10 q1006 (k8 := 0) (cs0 (k := 0)) (by decide) ⟨Nat.le_of_ble_eq_true rfl, Nat.le_of_ble_eq_true rfl⟩ ⟨Nat.le_refl _, Nat.le_refl _⟩ dX7_goes_39 (fun H locs hP => ?_)
      refine lv_if_eq (tgt := 58) X.1 X.2.1 dX7_goes_42 (by decide) (fun c21 => ?_) (fun c21 => ?_)
      · have hF := hF.1 c21
        refine ph_iinc (v := x2 + 1) (k := 2) X hl dX7_goes_58 rfl rfl (by decide) rfl (fun ls hl => ?_)
        refine lv_goto (tgt := 4) X.1 X.2.1 dX7_goes_61 (by decide) ?_
        exact ih _ _ _ _ _ _ hF hP (lh_sub hl [2, 0] rfl)
      · have hF := hF.2 c21
        refine ph_aload_n (n := 1) X hl dX7_goes_45 rfl rfl ?_
        refine ph_iload_n (n := 0) X hl dX7_goes_46 rfl rfl ?_
        refine cg_callVi 6 [iX (ι (gR g (gR g x0 1) 0) x2.toNatClampNeg)] X hP hm1 (met_X7_isAwake l D dA ad g _ _ hF) (cwV 1 X.2.2.2.2.1 (lw_V q1017 q1018 q1019 q124 q1020) rfl rfl rfl (by decide +kernel) ⟨Nat.le_of_ble_eq_true rfl, Nat.le_of_ble_eq_true rfl⟩) rfl hl (k8 := 0) (cs0 (k := 0)) (by decide) ⟨Nat.le_refl _, Nat.le_refl _⟩ dX7_goes_47 rfl (fun r14 ι15 H locs hF hP => ?_)
        refine lv_if_ne (tgt := 58) X.1 X.2.1 dX7_goes_50 (by decide) (fun c20 => ?_) (fun c20 => ?_)
        · have hF := hF.1 c20
          refine ph_iinc (v := x2 + 1) (k := 2) X hl dX7_goes_58 rfl rfl (by decide) rfl (fun ls hl => ?_)
          refine lv_goto (tgt := 4) X.1 X.2.1 dX7_goes_61 (by decide) ?_
          exact ih _ _ _ _ _ _ hF hP (lh_sub hl [2, 0] rfl)
        · have hF := hF.2 c20
          refine ph_aload_n (n := 1) X hl dX7_goes_53 rfl rfl ?_
          refine ph_iload_n (n := 0) X hl dX7_goes_54 rfl rfl ?_
          refine cg_callVv 6 [iX (ι (gR g (gR g x0 1) 0) x2.toNatClampNeg)] X hP hm1 (met_X7_wake l D dA ad g _ _ hF) (cwV 1 X.2.2.2.2.1 (lw_V q1086 q1088 qs18 q124 q1089) rfl rfl rfl (by decide +kernel) ⟨Nat.le_of_ble_eq_true rfl, Nat.le_of_ble_eq_true rfl⟩) rfl hl (k8 := 0) (cs0 (k := 0)) (by decide) ⟨Nat.le_refl _, Nat.le_refl _⟩ dX7_goes_55 rfl (fun ι18 H locs hF hP => ?_)
          refine ph_iinc (v := x2 + 1) (k := 2) X hl dX7_goes_58 rfl rfl (by decide) rfl (fun ls hl => ?_)
          refine lv_goto (tgt := 4) X.1 X.2.1 dX7_goes_61 (by decide) ?_
          exact ih _ _ _ _ _ _ hF hP (lh_sub hl [2, 0] rfl)
set_option maxHeartbeats 2000000 in
theorem met_X7_goes (l : Launch) (D : va_G) (dA : Nat → ClassId) (ad : Nat → Nat) (g : GT) (ι : S) (sz : Nat) {a0 : Nat} {a1 : Int32} {Q : S → Prop} (hF : P_X7_goes g a0 a1 ι Q) : CGv l yX7_goes cX7_goes 4 ({ frames := 3, cells := 0, slots := 0, locals := 80 } : Room) D dA ad g ι sz [pX a0, iX a1] Q := by
  unfold P_X7_goes at hF
  refine ph_enter [pX a0, iX a1] (Qc := fun A => va_Qv (GQv g Q) (CB D dA ad A) A) (by decide +kernel) (Nat.le_of_ble_eq_true rfl) ?_
  intro p e s m args below meth c A ls X hP hl hnm
  have hl : LH ad ls 4 [(0, pX a0), (1, iX a1)] := hl
  refine ph_iload_n (n := 1) X hl dX7_goes_0 rfl rfl ?_
  refine lv_iconst (v := 1) X.1 X.2.1 dX7_goes_1 (by decide) ?_
  refine lv_iadd X.1 X.2.1 dX7_goes_2 ?_
  refine ph_istore_n X hl dX7_goes_3 rfl (by decide) rfl (fun ls hl => ?_)
  obtain ⟨n9, hF⟩ := hF
  exact w_X7_goes_4 X n9 _ _ _ _ _ _ hF hP (lh_sub hl [1, 0] rfl)
def P_X7_minute_197 (g : GT) (Q : S → Prop) (y0 : Nat) (y1 : Int32) (x0 : Nat) (ι : S) : Prop := (gK g y0 = 7 ∧ (∀ ι2, ι2 = up2 ι y0 13 y1 → (gK g x0 = 7 ∧ (∀ ι4, ι4 = up2 ι2 x0 12 (if (ι2 x0 12) < (ι2 x0 13) then ι2 x0 13 else ι2 x0 12) → (Q ι4)))))
def P_X7_minute_132 (g : GT) (Q : S → Prop) : Nat → Nat → Int32 → S → Prop
  | 0, _, _, _ => False
  | n + 1, x0, x1, ι => (gK g x0 = 7 ∧ (gK g (gR g x0 1) = 6 ∧ (((ι (gR g x0 1) 2) ≤ x1 → ((¬ (ι x0 13) = (-1) → (P_X7_minute_197 g Q x0 ((ι x0 13) + 1) x0 ι)) ∧ ((ι x0 13) = (-1) → (P_X7_minute_197 g Q x0 0 x0 ι)))) ∧ (¬ (ι (gR g x0 1) 2) ≤ x1 → (gK g (gR g (gR g x0 1) 0) = 100 ∧ (vp_in x1 (gL g (gR g (gR g x0 1) 0)) ∧ (gK g (gR g (gR g x0 1) 1) = 100 ∧ (vp_in (ι (gR g (gR g x0 1) 0) x1.toNatClampNeg) (gL g (gR g (gR g x0 1) 1)) ∧ ((¬ (ι (gR g (gR g x0 1) 1) ((ι (gR g (gR g x0 1) 0) x1.toNatClampNeg).toNatClampNeg)) = (ι x0 14) → (P_X7_minute_132 g Q  n x0 (x1 + 1) ι)) ∧ ((ι (gR g (gR g x0 1) 1) ((ι (gR g (gR g x0 1) 0) x1.toNatClampNeg).toNatClampNeg)) = (ι x0 14) → (P_X7_goes g x0 x1 ι (fun ι13 => (P_X7_minute_132 g Q  n x0 (x1 + 1) ι13)))))))))))))
def P_X7_minute_104 (g : GT) (Q : S → Prop) (k47 : Nat → Int32 → S → Prop) (x0 : Nat) (x1 : Int32) (x2 : Int32) (ι : S) : Prop := (gK g x0 = 7 ∧ (P_X7_sore g x0 x1 x2 ι (fun r17 ι18 => ((r17 = (-1) → (k47 x0 (x1 + 1) ι18)) ∧ (¬ r17 = (-1) → (P_X7_turn g x0 x1 x2 r17 0 ι18 (fun ι22 => (k47 x0 (x1 + 1) ι22))))))))
def P_X7_minute_76 (g : GT) (Q : S → Prop) (k47 : Nat → Int32 → S → Prop) : Nat → Nat → Int32 → Int32 → S → Prop
  | 0, _, _, _, _ => False
  | n + 1, x0, x1, x2, ι => (gK g x0 = 7 ∧ (gK g (gR g x0 1) = 6 ∧ (((ι (gR g x0 1) 2) ≤ x2 → (P_X7_minute_104 g Q k47 x0 x1 x2 ι)) ∧ (¬ (ι (gR g x0 1) 2) ≤ x2 → (P_X6_isApart g (gR g x0 1) x2 ι (fun r27 ι28 => ((¬ r27 = 0 → (P_X7_minute_104 g Q k47 x0 x1 x2 ι28)) ∧ (r27 = 0 → (P_X7_minute_76 g Q k47  n x0 x1 (x2 + 1) ι28)))))))))
def P_X7_minute_47 (g : GT) (Q : S → Prop) : Nat → Nat → Int32 → S → Prop
  | 0, _, _, _ => False
  | n + 1, x0, x1, ι => (gK g x0 = 7 ∧ (gK g (gR g x0 1) = 6 ∧ (((ι (gR g x0 1) 2) ≤ x1 → (∃ n9, P_X7_minute_132 g Q n9 x0 0 ι)) ∧ (¬ (ι (gR g x0 1) 2) ≤ x1 → (P_X6_isApart g (gR g x0 1) x1 ι (fun r34 ι35 => ((¬ r34 = 0 → (∃ n9, P_X7_minute_76 g Q (fun z0 z1 z2 => P_X7_minute_47 g Q  n z0 z1 z2) n9 x0 x1 (x1 + 1) ι35)) ∧ (r34 = 0 → (P_X7_minute_47 g Q  n x0 (x1 + 1) ι35)))))))))
def P_X7_minute (g : GT) (a0 : Nat) (ι : S) (Q : S → Prop) : Prop := (gK g a0 = 7 ∧ (gK g (gR g a0 1) = 6 ∧ (((ι (gR g a0 1) 5) ≤ 0 → (∃ n9, P_X7_minute_47 g Q n9 a0 0 ι)) ∧ (¬ (ι (gR g a0 1) 5) ≤ 0 → (¬ (ι (gR g a0 1) 5) = 0 ∧ ((¬ ((ι a0 14) - (ι a0 14) / (ι (gR g a0 1) 5) * (ι (gR g a0 1) 5)) = 0 → (∃ n9, P_X7_minute_47 g Q n9 a0 0 ι)) ∧ (((ι a0 14) - (ι a0 14) / (ι (gR g a0 1) 5) * (ι (gR g a0 1) 5)) = 0 → (P_X7_turn g a0 0 (ι (gR g a0 1) 2) (ι (gR g a0 1) 4) 1 ι (fun ι43 => (∃ n9, P_X7_minute_47 g Q n9 a0 0 ι43))))))))))
set_option maxHeartbeats 2000000 in
theorem w_X7_minute_197 (X : CX p s m args c meth cX7_minute 4 none RX7 D dA ad A) {Q : S → Prop} : ∀ (y0 : Nat) (y1 : Int32) (x0 : Nat) (ι : S) (H : Heap) (locs : List Loc) (ls : Array Slot), P_X7_minute_197 g Q y0 y1 x0 ι → PW D dA A s.heap ad (HS g ι) H locs → LH ad ls 4 [(0, pX x0)] → WGv p l e ({ frames := 2105, cells := 0, slots := 0, locals := 44917 } : Room) s m args below meth c D dA ad A g Q H locs (F0 m 197 ls [.int y1, rv ad y0]) := by
  intro y0 y1 x0 ι H locs ls hF hP hl
  unfold P_X7_minute_197 at hF
  obtain ⟨hm1, hF⟩ := hF
  refine cg_puti 6 13 X in_X7 tyX7 tyX7_ok nmX7 hP hm1 q735 dX7_minute_197 hF (fun H locs ι2 hP hF => ?_)
  refine ph_aload_n (n := 0) X hl dX7_minute_200 rfl rfl ?_
  refine ph_aload_n (n := 0) X hl dX7_minute_201 rfl rfl ?_
  obtain ⟨hm3, hF⟩ := hF
  refine cg_geti 6 12 X in_X7 hP hm3 q733 dX7_minute_202 ?_
  refine ph_aload_n (n := 0) X hl dX7_minute_205 rfl rfl ?_
  refine cg_geti 6 13 X in_X7 hP hm3 q735 dX7_minute_206 ?_
  refine va_mmax X.1 X.2.1 (X.2.2.1.trans hl.1.symm) X.2.2.2.1 (X.2.2.2.2.1 _ q1116) (X.2.2.2.2.1 _ q267) (X.2.2.2.2.1 _ q112) (X.2.2.2.2.1 _ q268) (Nat.le_of_ble_eq_true rfl) (Nat.le_trans (Nat.add_le_add_right (csr (cs0 (k := 0))) 13) (Nat.le_of_ble_eq_true rfl)) (Nat.le_refl _) (Nat.le_refl _) dX7_minute_209 ?_
  refine cg_puti 6 12 X in_X7 tyX7 tyX7_ok nmX7 hP hm3 q733 dX7_minute_212 hF (fun H locs ι4 hP hF => ?_)
  exact cg_vret X hP hF dX7_minute_215
set_option maxHeartbeats 2000000 in
theorem w_X7_minute_132 (X : CX p s m args c meth cX7_minute 4 none RX7 D dA ad A) {Q : S → Prop} : ∀ (n : Nat) (x0 : Nat) (x1 : Int32) (ι : S) (H : Heap) (locs : List Loc) (ls : Array Slot), P_X7_minute_132 g Q n x0 x1 ι → PW D dA A s.heap ad (HS g ι) H locs → LH ad ls 4 [(0, pX x0), (1, iX x1)] → WGv p l e ({ frames := 2105, cells := 0, slots := 0, locals := 44917 } : Room) s m args below meth c D dA ad A g Q H locs (F0 m 132 ls []) := by
  intro n
  induction n with
  | zero =>
    intro x0 x1 ι H locs ls hF
    exact hF.elim
  | succ n ih =>
    intro x0 x1 ι H locs ls hF hP hl
    rw [P_X7_minute_132] at hF
    refine ph_iload_n (n := 1) X hl dX7_minute_132 rfl rfl ?_
    refine ph_aload_n (n := 0) X hl dX7_minute_133 rfl rfl ?_
    obtain ⟨hm5, hF⟩ := hF
    refine cg_getr 6 1 X in_X7 hP hm5 q718 dX7_minute_134 ?_
    obtain ⟨hm6, hF⟩ := hF
    refine cg_getiN 5 2 X in_X6 hP hm6 q587 dX7_minute_137 ?_
    refine lv_icmp_ge (tgt := 178) X.1 X.2.1 dX7_minute_140 (by decide) (fun c16 => ?_) (fun c16 => ?_)
    · have hF := hF.1 c16
      refine ph_aload_n (n := 0) X hl dX7_minute_178 rfl rfl ?_
      refine ph_aload_n (n := 0) X hl dX7_minute_179 rfl rfl ?_
      refine cg_geti 6 13 X in_X7 hP hm5 q735 dX7_minute_180 ?_
      refine lv_iconst (v := (-1)) X.1 X.2.1 dX7_minute_183 (by decide) ?_
      refine lv_icmp_ne (tgt := 191) X.1 X.2.1 dX7_minute_184 (by decide) (fun c7 => ?_) (fun c7 => ?_)
      · have hF := hF.1 c7
        refine ph_aload_n (n := 0) X hl dX7_minute_191 rfl rfl ?_
        refine cg_geti 6 13 X in_X7 hP hm5 q735 dX7_minute_192 ?_
        refine lv_iconst (v := 1) X.1 X.2.1 dX7_minute_195 (by decide) ?_
        refine lv_iadd X.1 X.2.1 dX7_minute_196 ?_
        exact w_X7_minute_197 X _ _ _ _ _ _ _ hF hP (lh_sub hl [0] rfl)
      · have hF := hF.2 c7
        refine lv_iconst (v := 0) X.1 X.2.1 dX7_minute_187 (by decide) ?_
        refine lv_goto (tgt := 197) X.1 X.2.1 dX7_minute_188 (by decide) ?_
        exact w_X7_minute_197 X _ _ _ _ _ _ _ hF hP (lh_sub hl [0] rfl)
    · have hF := hF.2 c16
      refine ph_aload_n (n := 0) X hl dX7_minute_143 rfl rfl ?_
      refine cg_getr 6 1 X in_X7 hP hm5 q718 dX7_minute_144 ?_
      refine cg_getrN 5 1 X in_X6 hP hm6 q584 dX7_minute_147 ?_
      refine ph_aload_n (n := 0) X hl dX7_minute_150 rfl rfl ?_
      refine cg_getr 6 1 X in_X7 hP hm5 q718 dX7_minute_151 ?_
      refine cg_getrN 5 0 X in_X6 hP hm6 q581 dX7_minute_154 ?_
      refine ph_iload_n (n := 1) X hl dX7_minute_157 rfl rfl ?_
      obtain ⟨hm8, hF⟩ := hF
      obtain ⟨hr9, hF⟩ := hF
      refine cg_iald X hP hm8 hr9 (k := x1.toNatClampNeg) rfl dX7_minute_158 ?_
      obtain ⟨hm10, hF⟩ := hF
      obtain ⟨hr11, hF⟩ := hF
      refine cg_iald X hP hm10 hr11 (k := (ι (gR g (gR g x0 1) 0) x1.toNatClampNeg).toNatClampNeg) rfl dX7_minute_159 ?_
      refine ph_aload_n (n := 0) X hl dX7_minute_160 rfl rfl ?_
      refine cg_geti 6 14 X in_X7 hP hm5 q736 dX7_minute_161 ?_
      refine lv_icmp_ne (tgt := 172) X.1 X.2.1 dX7_minute_164 (by decide) (fun c15 => ?_) (fun c15 => ?_)
      · have hF := hF.1 c15
        refine ph_iinc (v := x1 + 1) (k := 1) X hl dX7_minute_172 rfl rfl (by decide) rfl (fun ls hl => ?_)
        refine lv_goto (tgt := 132) X.1 X.2.1 dX7_minute_175 (by decide) ?_
        exact ih _ _ _ _ _ _ hF hP (lh_sub hl [1, 0] rfl)
      · have hF := hF.2 c15
        refine ph_aload_n (n := 0) X hl dX7_minute_167 rfl rfl ?_
        refine ph_iload_n (n := 1) X hl dX7_minute_168 rfl rfl ?_
        refine cg_callVv 6 [iX x1] X hP hm5 (met_X7_goes l D dA ad g _ _ hF) (cwV 1 X.2.2.2.2.1 (lw_V q1112 q1114 qs20 q124 q1115) rfl rfl rfl (by decide +kernel) ⟨Nat.le_of_ble_eq_true rfl, Nat.le_of_ble_eq_true rfl⟩) rfl hl (k8 := 0) (cs0 (k := 0)) (by decide) ⟨Nat.le_refl _, Nat.le_refl _⟩ dX7_minute_169 rfl (fun ι13 H locs hF hP => ?_)
        refine ph_iinc (v := x1 + 1) (k := 1) X hl dX7_minute_172 rfl rfl (by decide) rfl (fun ls hl => ?_)
        refine lv_goto (tgt := 132) X.1 X.2.1 dX7_minute_175 (by decide) ?_
        exact ih _ _ _ _ _ _ hF hP (lh_sub hl [1, 0] rfl)
set_option maxHeartbeats 2000000 in
theorem w_X7_minute_104 (X : CX p s m args c meth cX7_minute 4 none RX7 D dA ad A) {Q : S → Prop} {k47 : Nat → Int32 → S → Prop} (hk47 : ∀ (x0 : Nat) (x1 : Int32) (ι : S) (H : Heap) (locs : List Loc) (ls : Array Slot), k47 x0 x1 ι → PW D dA A s.heap ad (HS g ι) H locs → LH ad ls 4 [(0, pX x0), (1, iX x1)] → WGv p l e ({ frames := 2105, cells := 0, slots := 0, locals := 44917 } : Room) s m args below meth c D dA ad A g Q H locs (F0 m 47 ls [])) : ∀ (x0 : Nat) (x1 : Int32) (x2 : Int32) (ι : S) (H : Heap) (locs : List Loc) (ls : Array Slot), P_X7_minute_104 g Q k47 x0 x1 x2 ι → PW D dA A s.heap ad (HS g ι) H locs → LH ad ls 4 [(0, pX x0), (1, iX x1), (2, iX x2)] → WGv p l e ({ frames := 2105, cells := 0, slots := 0, locals := 44917 } : Room) s m args below meth c D dA ad A g Q H locs (F0 m 104 ls []) := by
  intro x0 x1 x2 ι H locs ls hF hP hl
  unfold P_X7_minute_104 at hF
  refine ph_aload_n (n := 0) X hl dX7_minute_104 rfl rfl ?_
  refine ph_iload_n (n := 1) X hl dX7_minute_105 rfl rfl ?_
  refine ph_iload_n (n := 2) X hl dX7_minute_106 rfl rfl ?_
  obtain ⟨hm20, hF⟩ := hF
  refine cg_callVi 6 [iX x1, iX x2] X hP hm20 (met_X7_sore l D dA ad g _ _ hF) (cwV 2 X.2.2.2.2.1 (lw_V q1094 q1096 qs19 q124 q1097) rfl rfl rfl (by decide +kernel) ⟨Nat.le_of_ble_eq_true rfl, Nat.le_of_ble_eq_true rfl⟩) rfl hl (k8 := 0) (cs0 (k := 0)) (by decide) ⟨Nat.le_refl _, Nat.le_refl _⟩ dX7_minute_107 rfl (fun r17 ι18 H locs hF hP => ?_)
  refine ph_istore_n X hl dX7_minute_110 rfl (by decide) rfl (fun ls hl => ?_)
  refine ph_iload_n (n := 0) X hl dX7_minute_111 rfl rfl ?_
  refine lv_iconst (v := (-1)) X.1 X.2.1 dX7_minute_112 (by decide) ?_
  refine lv_icmp_eq (tgt := 124) X.1 X.2.1 dX7_minute_113 (by decide) (fun c24 => ?_) (fun c24 => ?_)
  · have hF := hF.1 c24
    refine ph_iinc (v := x1 + 1) (k := 2) X hl dX7_minute_124 rfl rfl (by decide) rfl (fun ls hl => ?_)
    refine lv_goto (tgt := 47) X.1 X.2.1 dX7_minute_127 (by decide) ?_
    exact hk47 _ _ _ _ _ _ hF hP (lh_sub hl [2, 0] rfl)
  · have hF := hF.2 c24
    refine ph_aload_n (n := 1) X hl dX7_minute_116 rfl rfl ?_
    refine ph_iload_n (n := 2) X hl dX7_minute_117 rfl rfl ?_
    refine ph_iload_n (n := 3) X hl dX7_minute_118 rfl rfl ?_
    refine ph_iload_n (n := 0) X hl dX7_minute_119 rfl rfl ?_
    refine lv_iconst (v := 0) X.1 X.2.1 dX7_minute_120 (by decide) ?_
    refine cg_callVv 6 [iX x1, iX x2, iX r17, iX 0] X hP hm20 (met_X7_turn l D dA ad g _ _ hF) (cwV 4 X.2.2.2.2.1 (lw_V q981 q983 qs15 q124 q984) rfl rfl rfl (by decide +kernel) ⟨Nat.le_of_ble_eq_true rfl, Nat.le_of_ble_eq_true rfl⟩) rfl hl (k8 := 0) (cs0 (k := 0)) (by decide) ⟨Nat.le_refl _, Nat.le_refl _⟩ dX7_minute_121 rfl (fun ι22 H locs hF hP => ?_)
    refine ph_iinc (v := x1 + 1) (k := 2) X hl dX7_minute_124 rfl rfl (by decide) rfl (fun ls hl => ?_)
    refine lv_goto (tgt := 47) X.1 X.2.1 dX7_minute_127 (by decide) ?_
    exact hk47 _ _ _ _ _ _ hF hP (lh_sub hl [2, 0] rfl)
set_option maxHeartbeats 2000000 in
theorem w_X7_minute_76 (X : CX p s m args c meth cX7_minute 4 none RX7 D dA ad A) {Q : S → Prop} {k47 : Nat → Int32 → S → Prop} (hk47 : ∀ (x0 : Nat) (x1 : Int32) (ι : S) (H : Heap) (locs : List Loc) (ls : Array Slot), k47 x0 x1 ι → PW D dA A s.heap ad (HS g ι) H locs → LH ad ls 4 [(0, pX x0), (1, iX x1)] → WGv p l e ({ frames := 2105, cells := 0, slots := 0, locals := 44917 } : Room) s m args below meth c D dA ad A g Q H locs (F0 m 47 ls [])) : ∀ (n : Nat) (x0 : Nat) (x1 : Int32) (x2 : Int32) (ι : S) (H : Heap) (locs : List Loc) (ls : Array Slot), P_X7_minute_76 g Q k47 n x0 x1 x2 ι → PW D dA A s.heap ad (HS g ι) H locs → LH ad ls 4 [(0, pX x0), (1, iX x1), (2, iX x2)] → WGv p l e ({ frames := 2105, cells := 0, slots := 0, locals := 44917 } : Room) s m args below meth c D dA ad A g Q H locs (F0 m 76 ls []) := by
  intro n
  induction n with
  | zero =>
    intro x0 x1 x2 ι H locs ls hF
    exact hF.elim
  | succ n ih =>
    intro x0 x1 x2 ι H locs ls hF hP hl
    rw [P_X7_minute_76] at hF
    refine ph_iload_n (n := 2) X hl dX7_minute_76 rfl rfl ?_
    refine ph_aload_n (n := 0) X hl dX7_minute_77 rfl rfl ?_
    obtain ⟨hm25, hF⟩ := hF
    refine cg_getr 6 1 X in_X7 hP hm25 q718 dX7_minute_78 ?_
    obtain ⟨hm26, hF⟩ := hF
    refine cg_getiN 5 2 X in_X6 hP hm26 q587 dX7_minute_81 ?_
    refine lv_icmp_ge (tgt := 104) X.1 X.2.1 dX7_minute_84 (by decide) (fun c31 => ?_) (fun c31 => ?_)
    · have hF := hF.1 c31
      exact w_X7_minute_104 X hk47 _ _ _ _ _ _ _ hF hP hl
    · have hF := hF.2 c31
      refine ph_aload_n (n := 0) X hl dX7_minute_87 rfl rfl ?_
      refine cg_getr 6 1 X in_X7 hP hm25 q718 dX7_minute_88 ?_
      refine ph_iload_n (n := 2) X hl dX7_minute_91 rfl rfl ?_
      refine cg_callVi 5 [iX x2] X hP hm26 (met_X6_isApart l D dA ad g _ _ hF) (cwV 1 X.2.2.2.2.1 (lw_V q1090 q1091 q1092 q123 q1093) rfl rfl rfl (by decide +kernel) ⟨Nat.le_of_ble_eq_true rfl, Nat.le_of_ble_eq_true rfl⟩) rfl hl (k8 := 0) (cs0 (k := 0)) (by decide) ⟨Nat.le_refl _, Nat.le_refl _⟩ dX7_minute_92 rfl (fun r27 ι28 H locs hF hP => ?_)
      refine lv_if_ne (tgt := 104) X.1 X.2.1 dX7_minute_95 (by decide) (fun c30 => ?_) (fun c30 => ?_)
      · have hF := hF.1 c30
        exact w_X7_minute_104 X hk47 _ _ _ _ _ _ _ hF hP hl
      · have hF := hF.2 c30
        refine ph_iinc (v := x2 + 1) (k := 2) X hl dX7_minute_98 rfl rfl (by decide) rfl (fun ls hl => ?_)
        refine lv_goto (tgt := 76) X.1 X.2.1 dX7_minute_101 (by decide) ?_
        exact ih _ _ _ _ _ _ _ hF hP (lh_sub hl [1, 2, 0] rfl)
set_option maxHeartbeats 2000000 in
theorem w_X7_minute_47 (X : CX p s m args c meth cX7_minute 4 none RX7 D dA ad A) {Q : S → Prop} : ∀ (n : Nat) (x0 : Nat) (x1 : Int32) (ι : S) (H : Heap) (locs : List Loc) (ls : Array Slot), P_X7_minute_47 g Q n x0 x1 ι → PW D dA A s.heap ad (HS g ι) H locs → LH ad ls 4 [(0, pX x0), (1, iX x1)] → WGv p l e ({ frames := 2105, cells := 0, slots := 0, locals := 44917 } : Room) s m args below meth c D dA ad A g Q H locs (F0 m 47 ls []) := by
  intro n
  induction n with
  | zero =>
    intro x0 x1 ι H locs ls hF
    exact hF.elim
  | succ n ih =>
    intro x0 x1 ι H locs ls hF hP hl
    rw [P_X7_minute_47] at hF
    refine ph_iload_n (n := 1) X hl dX7_minute_47 rfl rfl ?_
    refine ph_aload_n (n := 0) X hl dX7_minute_48 rfl rfl ?_
    obtain ⟨hm32, hF⟩ := hF
    refine cg_getr 6 1 X in_X7 hP hm32 q718 dX7_minute_49 ?_
    obtain ⟨hm33, hF⟩ := hF
    refine cg_getiN 5 2 X in_X6 hP hm33 q587 dX7_minute_52 ?_
    refine lv_icmp_ge (tgt := 130) X.1 X.2.1 dX7_minute_55 (by decide) (fun c38 => ?_) (fun c38 => ?_)
    · have hF := hF.1 c38
      refine lv_iconst (v := 0) X.1 X.2.1 dX7_minute_130 (by decide) ?_
      refine ph_istore_n X hl dX7_minute_131 rfl (by decide) rfl (fun ls hl => ?_)
      obtain ⟨n9, hF⟩ := hF
      exact w_X7_minute_132 X n9 _ _ _ _ _ _ hF hP (lh_sub hl [1, 0] rfl)
    · have hF := hF.2 c38
      refine ph_aload_n (n := 0) X hl dX7_minute_58 rfl rfl ?_
      refine cg_getr 6 1 X in_X7 hP hm32 q718 dX7_minute_59 ?_
      refine ph_iload_n (n := 1) X hl dX7_minute_62 rfl rfl ?_
      refine cg_callVi 5 [iX x1] X hP hm33 (met_X6_isApart l D dA ad g _ _ hF) (cwV 1 X.2.2.2.2.1 (lw_V q1090 q1091 q1092 q123 q1093) rfl rfl rfl (by decide +kernel) ⟨Nat.le_of_ble_eq_true rfl, Nat.le_of_ble_eq_true rfl⟩) rfl hl (k8 := 0) (cs0 (k := 0)) (by decide) ⟨Nat.le_refl _, Nat.le_refl _⟩ dX7_minute_63 rfl (fun r34 ι35 H locs hF hP => ?_)
      refine lv_if_ne (tgt := 72) X.1 X.2.1 dX7_minute_66 (by decide) (fun c37 => ?_) (fun c37 => ?_)
      · have hF := hF.1 c37
        refine ph_iload_n (n := 1) X hl dX7_minute_72 rfl rfl ?_
        refine lv_iconst (v := 1) X.1 X.2.1 dX7_minute_73 (by decide) ?_
        refine lv_iadd X.1 X.2.1 dX7_minute_74 ?_
        refine ph_istore_n X hl dX7_minute_75 rfl (by decide) rfl (fun ls hl => ?_)
        obtain ⟨n9, hF⟩ := hF
        exact w_X7_minute_76 X ih n9 _ _ _ _ _ _ _ hF hP (lh_sub hl [1, 2, 0] rfl)
      · have hF := hF.2 c37
        refine lv_goto (tgt := 124) X.1 X.2.1 dX7_minute_69 (by decide) ?_
        refine ph_iinc (v := x1 + 1) (k := 1) X hl dX7_minute_124 rfl rfl (by decide) rfl (fun ls hl => ?_)
        refine lv_goto (tgt := 47) X.1 X.2.1 dX7_minute_127 (by decide) ?_
        exact ih _ _ _ _ _ _ hF hP (lh_sub hl [1, 0] rfl)
set_option maxHeartbeats 2000000 in
theorem met_X7_minute (l : Launch) (D : va_G) (dA : Nat → ClassId) (ad : Nat → Nat) (g : GT) (ι : S) (sz : Nat) {a0 : Nat} {Q : S → Prop} (hF : P_X7_minute g a0 ι Q) : CGv l yX7_minute cX7_minute 4 ({ frames := 2105, cells := 0, slots := 0, locals := 44917 } : Room) D dA ad g ι sz [pX a0] Q := by
  unfold P_X7_minute at hF
  refine ph_enter [pX a0] (Qc := fun A => va_Qv (GQv g Q) (CB D dA ad A) A) (by decide +kernel) (Nat.le_of_ble_eq_true rfl) ?_
  intro p e s m args below meth c A ls X hP hl hnm
  have hl : LH ad ls 4 [(0, pX a0)] := hl
  refine ph_aload_n (n := 0) X hl dX7_minute_0 rfl rfl ?_
  obtain ⟨hm39, hF⟩ := hF
  refine cg_getr 6 1 X in_X7 hP hm39 q718 dX7_minute_1 ?_
  obtain ⟨hm40, hF⟩ := hF
  refine cg_getiN 5 5 X in_X6 hP hm40 q595 dX7_minute_4 ?_
  refine lv_if_le (tgt := 45) X.1 X.2.1 dX7_minute_7 (by decide) (fun c46 => ?_) (fun c46 => ?_)
  · have hF := hF.1 c46
    refine lv_iconst (v := 0) X.1 X.2.1 dX7_minute_45 (by decide) ?_
    refine ph_istore_n X hl dX7_minute_46 rfl (by decide) rfl (fun ls hl => ?_)
    obtain ⟨n9, hF⟩ := hF
    exact w_X7_minute_47 X n9 _ _ _ _ _ _ hF hP (lh_sub hl [1, 0] rfl)
  · have hF := hF.2 c46
    refine ph_aload_n (n := 0) X hl dX7_minute_10 rfl rfl ?_
    refine cg_geti 6 14 X in_X7 hP hm39 q736 dX7_minute_11 ?_
    refine ph_aload_n (n := 0) X hl dX7_minute_14 rfl rfl ?_
    refine cg_getr 6 1 X in_X7 hP hm39 q718 dX7_minute_15 ?_
    refine cg_getiN 5 5 X in_X6 hP hm40 q595 dX7_minute_18 ?_
    obtain ⟨hz41, hF⟩ := hF
    refine lv_irem X.1 X.2.1 dX7_minute_21 hz41 ?_
    refine lv_if_ne (tgt := 45) X.1 X.2.1 dX7_minute_22 (by decide) (fun c45 => ?_) (fun c45 => ?_)
    · have hF := hF.1 c45
      refine lv_iconst (v := 0) X.1 X.2.1 dX7_minute_45 (by decide) ?_
      refine ph_istore_n X hl dX7_minute_46 rfl (by decide) rfl (fun ls hl => ?_)
      obtain ⟨n9, hF⟩ := hF
      exact w_X7_minute_47 X n9 _ _ _ _ _ _ hF hP (lh_sub hl [1, 0] rfl)
    · have hF := hF.2 c45
      refine ph_aload_n (n := 0) X hl dX7_minute_25 rfl rfl ?_
      refine lv_iconst (v := 0) X.1 X.2.1 dX7_minute_26 (by decide) ?_
      refine ph_aload_n (n := 0) X hl dX7_minute_27 rfl rfl ?_
      refine cg_getr 6 1 X in_X7 hP hm39 q718 dX7_minute_28 ?_
      refine cg_getiN 5 2 X in_X6 hP hm40 q587 dX7_minute_31 ?_
      refine ph_aload_n (n := 0) X hl dX7_minute_34 rfl rfl ?_
      refine cg_getr 6 1 X in_X7 hP hm39 q718 dX7_minute_35 ?_
      refine cg_getiN 5 4 X in_X6 hP hm40 q592 dX7_minute_38 ?_
      refine lv_iconst (v := 1) X.1 X.2.1 dX7_minute_41 (by decide) ?_
      refine cg_callVv 6 [iX 0, iX (ι (gR g a0 1) 2), iX (ι (gR g a0 1) 4), iX 1] X hP hm39 (met_X7_turn l D dA ad g _ _ hF) (cwV 4 X.2.2.2.2.1 (lw_V q981 q983 qs15 q124 q984) rfl rfl rfl (by decide +kernel) ⟨Nat.le_of_ble_eq_true rfl, Nat.le_of_ble_eq_true rfl⟩) rfl hl (k8 := 0) (cs0 (k := 0)) (by decide) ⟨Nat.le_refl _, Nat.le_refl _⟩ dX7_minute_42 rfl (fun ι43 H locs hF hP => ?_)
      refine lv_iconst (v := 0) X.1 X.2.1 dX7_minute_45 (by decide) ?_
      refine ph_istore_n X hl dX7_minute_46 rfl (by decide) rfl (fun ls hl => ?_)
      obtain ⟨n9, hF⟩ := hF
      exact w_X7_minute_47 X n9 _ _ _ _ _ _ hF hP (lh_sub hl [1, 0] rfl)
def P_X7_begins_2 (g : GT) (Q : S → Prop) : Nat → Nat → Int32 → S → Prop
  | 0, _, _, _ => False
  | n + 1, x0, x1, ι => ((7 ≤ x1 → (gK g x0 = 7 ∧ (∀ ι2, ι2 = up2 ι x0 11 0 → (∀ ι3, ι3 = up2 ι2 x0 12 0 → (∀ ι4, ι4 = up2 ι3 x0 13 0 → (∀ ι5, ι5 = up2 ι4 x0 14 0 → (Q ι5))))))) ∧ (¬ 7 ≤ x1 → (gK g x0 = 7 ∧ (gK g (gR g x0 1) = 6 ∧ (gK g (gR g x0 2) = 100 ∧ (vp_in x1 (gL g (gR g x0 2)) ∧ (∀ ι9, ι9 = up2 ι (gR g x0 2) x1.toNatClampNeg (ι (gR g x0 1) 3) → (gK g (gR g x0 3) = 100 ∧ (vp_in x1 (gL g (gR g x0 3)) ∧ (∀ ι12, ι12 = up2 ι9 (gR g x0 3) x1.toNatClampNeg 0 → (gK g (gR g x0 4) = 100 ∧ (vp_in x1 (gL g (gR g x0 4)) ∧ (∀ ι15, ι15 = up2 ι12 (gR g x0 4) x1.toNatClampNeg 0 → (gK g (gR g x0 5) = 100 ∧ (vp_in x1 (gL g (gR g x0 5)) ∧ (∀ ι18, ι18 = up2 ι15 (gR g x0 5) x1.toNatClampNeg (-1) → (gK g (gR g x0 6) = 100 ∧ (vp_in x1 (gL g (gR g x0 6)) ∧ (∀ ι21, ι21 = up2 ι18 (gR g x0 6) x1.toNatClampNeg 0 → (P_X7_begins_2 g Q  n x0 (x1 + 1) ι21))))))))))))))))))))
def P_X7_begins (g : GT) (a0 : Nat) (ι : S) (Q : S → Prop) : Prop := (∃ n9, P_X7_begins_2 g Q n9 a0 0 ι)
set_option maxHeartbeats 2000000 in
theorem w_X7_begins_2 (X : CX p s m args c meth cX7_begins 2 none RX7 D dA ad A) {Q : S → Prop} : ∀ (n : Nat) (x0 : Nat) (x1 : Int32) (ι : S) (H : Heap) (locs : List Loc) (ls : Array Slot), P_X7_begins_2 g Q n x0 x1 ι → PW D dA A s.heap ad (HS g ι) H locs → LH ad ls 2 [(0, pX x0), (1, iX x1)] → WGv p l e ({ frames := 0, cells := 0, slots := 0, locals := 0 } : Room) s m args below meth c D dA ad A g Q H locs (F0 m 2 ls []) := by
  intro n
  induction n with
  | zero =>
    intro x0 x1 ι H locs ls hF
    exact hF.elim
  | succ n ih =>
    intro x0 x1 ι H locs ls hF hP hl
    rw [P_X7_begins_2] at hF
    refine ph_iload_n (n := 1) X hl dX7_begins_2 rfl rfl ?_
    refine lv_bipush (v := 7) X.1 X.2.1 dX7_begins_3 (by decide) ?_
    refine lv_icmp_ge (tgt := 55) X.1 X.2.1 dX7_begins_5 (by decide) (fun c23 => ?_) (fun c23 => ?_)
    · have hF := hF.1 c23
      refine ph_aload_n (n := 0) X hl dX7_begins_55 rfl rfl ?_
      refine lv_iconst (v := 0) X.1 X.2.1 dX7_begins_56 (by decide) ?_
      obtain ⟨hm1, hF⟩ := hF
      refine cg_puti 6 11 X in_X7 tyX7 tyX7_ok nmX7 hP hm1 q731 dX7_begins_57 hF (fun H locs ι2 hP hF => ?_)
      refine ph_aload_n (n := 0) X hl dX7_begins_60 rfl rfl ?_
      refine lv_iconst (v := 0) X.1 X.2.1 dX7_begins_61 (by decide) ?_
      refine cg_puti 6 12 X in_X7 tyX7 tyX7_ok nmX7 hP hm1 q733 dX7_begins_62 hF (fun H locs ι3 hP hF => ?_)
      refine ph_aload_n (n := 0) X hl dX7_begins_65 rfl rfl ?_
      refine lv_iconst (v := 0) X.1 X.2.1 dX7_begins_66 (by decide) ?_
      refine cg_puti 6 13 X in_X7 tyX7 tyX7_ok nmX7 hP hm1 q735 dX7_begins_67 hF (fun H locs ι4 hP hF => ?_)
      refine ph_aload_n (n := 0) X hl dX7_begins_70 rfl rfl ?_
      refine lv_iconst (v := 0) X.1 X.2.1 dX7_begins_71 (by decide) ?_
      refine cg_puti 6 14 X in_X7 tyX7 tyX7_ok nmX7 hP hm1 q736 dX7_begins_72 hF (fun H locs ι5 hP hF => ?_)
      exact cg_vret X hP hF dX7_begins_75
    · have hF := hF.2 c23
      refine ph_aload_n (n := 0) X hl dX7_begins_8 rfl rfl ?_
      obtain ⟨hm6, hF⟩ := hF
      refine cg_getr 6 2 X in_X7 hP hm6 q719 dX7_begins_9 ?_
      refine ph_iload_n (n := 1) X hl dX7_begins_12 rfl rfl ?_
      refine ph_aload_n (n := 0) X hl dX7_begins_13 rfl rfl ?_
      refine cg_getr 6 1 X in_X7 hP hm6 q718 dX7_begins_14 ?_
      obtain ⟨hm7, hF⟩ := hF
      refine cg_getiN 5 3 X in_X6 hP hm7 q589 dX7_begins_17 ?_
      obtain ⟨hm8, hF⟩ := hF
      obtain ⟨hr10, hF⟩ := hF
      refine cg_iast X hP hm8 hr10 (k := x1.toNatClampNeg) rfl dX7_begins_20 hF (fun H locs ι9 hP hF => ?_)
      refine ph_aload_n (n := 0) X hl dX7_begins_21 rfl rfl ?_
      refine cg_getr 6 3 X in_X7 hP hm6 q721 dX7_begins_22 ?_
      refine ph_iload_n (n := 1) X hl dX7_begins_25 rfl rfl ?_
      refine lv_iconst (v := 0) X.1 X.2.1 dX7_begins_26 (by decide) ?_
      obtain ⟨hm11, hF⟩ := hF
      obtain ⟨hr13, hF⟩ := hF
      refine cg_iast X hP hm11 hr13 (k := x1.toNatClampNeg) rfl dX7_begins_27 hF (fun H locs ι12 hP hF => ?_)
      refine ph_aload_n (n := 0) X hl dX7_begins_28 rfl rfl ?_
      refine cg_getr 6 4 X in_X7 hP hm6 q722 dX7_begins_29 ?_
      refine ph_iload_n (n := 1) X hl dX7_begins_32 rfl rfl ?_
      refine lv_iconst (v := 0) X.1 X.2.1 dX7_begins_33 (by decide) ?_
      obtain ⟨hm14, hF⟩ := hF
      obtain ⟨hr16, hF⟩ := hF
      refine cg_iast X hP hm14 hr16 (k := x1.toNatClampNeg) rfl dX7_begins_34 hF (fun H locs ι15 hP hF => ?_)
      refine ph_aload_n (n := 0) X hl dX7_begins_35 rfl rfl ?_
      refine cg_getr 6 5 X in_X7 hP hm6 q724 dX7_begins_36 ?_
      refine ph_iload_n (n := 1) X hl dX7_begins_39 rfl rfl ?_
      refine lv_iconst (v := (-1)) X.1 X.2.1 dX7_begins_40 (by decide) ?_
      obtain ⟨hm17, hF⟩ := hF
      obtain ⟨hr19, hF⟩ := hF
      refine cg_iast X hP hm17 hr19 (k := x1.toNatClampNeg) rfl dX7_begins_41 hF (fun H locs ι18 hP hF => ?_)
      refine ph_aload_n (n := 0) X hl dX7_begins_42 rfl rfl ?_
      refine cg_getr 6 6 X in_X7 hP hm6 q725 dX7_begins_43 ?_
      refine ph_iload_n (n := 1) X hl dX7_begins_46 rfl rfl ?_
      refine lv_iconst (v := 0) X.1 X.2.1 dX7_begins_47 (by decide) ?_
      obtain ⟨hm20, hF⟩ := hF
      obtain ⟨hr22, hF⟩ := hF
      refine cg_iast X hP hm20 hr22 (k := x1.toNatClampNeg) rfl dX7_begins_48 hF (fun H locs ι21 hP hF => ?_)
      refine ph_iinc (v := x1 + 1) (k := 1) X hl dX7_begins_49 rfl rfl (by decide) rfl (fun ls hl => ?_)
      refine lv_goto (tgt := 2) X.1 X.2.1 dX7_begins_52 (by decide) ?_
      exact ih _ _ _ _ _ _ hF hP (lh_sub hl [1, 0] rfl)
set_option maxHeartbeats 2000000 in
theorem met_X7_begins (l : Launch) (D : va_G) (dA : Nat → ClassId) (ad : Nat → Nat) (g : GT) (ι : S) (sz : Nat) {a0 : Nat} {Q : S → Prop} (hF : P_X7_begins g a0 ι Q) : CGv l yX7_begins cX7_begins 2 ({ frames := 0, cells := 0, slots := 0, locals := 0 } : Room) D dA ad g ι sz [pX a0] Q := by
  unfold P_X7_begins at hF
  refine ph_enter [pX a0] (Qc := fun A => va_Qv (GQv g Q) (CB D dA ad A) A) (by decide +kernel) (Nat.le_of_ble_eq_true rfl) ?_
  intro p e s m args below meth c A ls X hP hl hnm
  have hl : LH ad ls 2 [(0, pX a0)] := hl
  refine lv_iconst (v := 0) X.1 X.2.1 dX7_begins_0 (by decide) ?_
  refine ph_istore_n X hl dX7_begins_1 rfl (by decide) rfl (fun ls hl => ?_)
  obtain ⟨n9, hF⟩ := hF
  exact w_X7_begins_2 X n9 _ _ _ _ _ _ hF hP (lh_sub hl [1, 0] rfl)
def P_X7_next (g : GT) (a0 : Nat) (ι : S) (Q : S → Prop) : Prop := (gK g a0 = 7 ∧ (∀ ι2, ι2 = up2 ι a0 14 ((ι a0 14) + 1) → (P_X7_minute g a0 ι2 (fun ι4 => (Q ι4)))))
set_option maxHeartbeats 2000000 in
theorem met_X7_next (l : Launch) (D : va_G) (dA : Nat → ClassId) (ad : Nat → Nat) (g : GT) (ι : S) (sz : Nat) {a0 : Nat} {Q : S → Prop} (hF : P_X7_next g a0 ι Q) : CGv l yX7_next cX7_next 1 ({ frames := 2106, cells := 0, slots := 0, locals := 44940 } : Room) D dA ad g ι sz [pX a0] Q := by
  unfold P_X7_next at hF
  refine ph_enter [pX a0] (Qc := fun A => va_Qv (GQv g Q) (CB D dA ad A) A) (by decide +kernel) (Nat.le_of_ble_eq_true rfl) ?_
  intro p e s m args below meth c A ls X hP hl hnm
  have hl : LH ad ls 1 [(0, pX a0)] := hl
  refine ph_aload_n (n := 0) X hl dX7_next_0 rfl rfl ?_
  refine ph_dup_r X dX7_next_1 ?_
  obtain ⟨hm1, hF⟩ := hF
  refine cg_geti 6 14 X in_X7 hP hm1 q736 dX7_next_2 ?_
  refine lv_iconst (v := 1) X.1 X.2.1 dX7_next_5 (by decide) ?_
  refine lv_iadd X.1 X.2.1 dX7_next_6 ?_
  refine cg_puti 6 14 X in_X7 tyX7 tyX7_ok nmX7 hP hm1 q736 dX7_next_7 hF (fun H locs ι2 hP hF => ?_)
  refine ph_aload_n (n := 0) X hl dX7_next_10 rfl rfl ?_
  refine cg_callVv 6 [] X hP hm1 (met_X7_minute l D dA ad g _ _ hF) (cwV 0 X.2.2.2.2.1 (lw_V q977 q979 qs14 q124 q980) rfl rfl rfl (by decide +kernel) ⟨Nat.le_of_ble_eq_true rfl, Nat.le_of_ble_eq_true rfl⟩) rfl hl (k8 := 0) (cs0 (k := 0)) (by decide) ⟨Nat.le_refl _, Nat.le_refl _⟩ dX7_next_11 rfl (fun ι4 H locs hF hP => ?_)
  exact cg_vret X hP hF dX7_next_14
def P_X7_goesTo_4 (g : GT) (Q : S → Prop) : Nat → Nat → Int32 → S → Prop
  | 0, _, _, _ => False
  | n + 1, x0, x1, ι => (gK g x0 = 7 ∧ ((x1 ≤ (ι x0 14) → (Q ι)) ∧ (¬ x1 ≤ (ι x0 14) → (P_X7_next g x0 ι (fun ι3 => (P_X7_goesTo_4 g Q  n x0 x1 ι3))))))
def P_X7_goesTo (g : GT) (a0 : Nat) (a1 : Int32) (ι : S) (Q : S → Prop) : Prop := (gK g a0 = 7 ∧ (P_X7_begins g a0 ι (fun ι7 => (∃ n9, P_X7_goesTo_4 g Q n9 a0 a1 ι7))))
set_option maxHeartbeats 2000000 in
theorem w_X7_goesTo_4 (X : CX p s m args c meth cX7_goesTo 2 none RX7 D dA ad A) {Q : S → Prop} : ∀ (n : Nat) (x0 : Nat) (x1 : Int32) (ι : S) (H : Heap) (locs : List Loc) (ls : Array Slot), P_X7_goesTo_4 g Q n x0 x1 ι → PW D dA A s.heap ad (HS g ι) H locs → LH ad ls 2 [(0, pX x0), (1, iX x1)] → WGv p l e ({ frames := 2107, cells := 0, slots := 0, locals := 44960 } : Room) s m args below meth c D dA ad A g Q H locs (F0 m 4 ls []) := by
  intro n
  induction n with
  | zero =>
    intro x0 x1 ι H locs ls hF
    exact hF.elim
  | succ n ih =>
    intro x0 x1 ι H locs ls hF hP hl
    rw [P_X7_goesTo_4] at hF
    refine ph_aload_n (n := 0) X hl dX7_goesTo_4 rfl rfl ?_
    obtain ⟨hm1, hF⟩ := hF
    refine cg_geti 6 14 X in_X7 hP hm1 q736 dX7_goesTo_5 ?_
    refine ph_iload_n (n := 1) X hl dX7_goesTo_8 rfl rfl ?_
    refine lv_icmp_ge (tgt := 19) X.1 X.2.1 dX7_goesTo_9 (by decide) (fun c5 => ?_) (fun c5 => ?_)
    · have hF := hF.1 c5
      exact cg_vret X hP hF dX7_goesTo_19
    · have hF := hF.2 c5
      refine ph_aload_n (n := 0) X hl dX7_goesTo_12 rfl rfl ?_
      refine cg_callVv 6 [] X hP hm1 (met_X7_next l D dA ad g _ _ hF) (cwV 0 X.2.2.2.2.1 (lw_V q973 q974 q975 q124 q976) rfl rfl rfl (by decide +kernel) ⟨Nat.le_of_ble_eq_true rfl, Nat.le_of_ble_eq_true rfl⟩) rfl hl (k8 := 0) (cs0 (k := 0)) (by decide) ⟨Nat.le_refl _, Nat.le_refl _⟩ dX7_goesTo_13 rfl (fun ι3 H locs hF hP => ?_)
      refine lv_goto (tgt := 4) X.1 X.2.1 dX7_goesTo_16 (by decide) ?_
      exact ih _ _ _ _ _ _ hF hP hl
set_option maxHeartbeats 2000000 in
theorem met_X7_goesTo (l : Launch) (D : va_G) (dA : Nat → ClassId) (ad : Nat → Nat) (g : GT) (ι : S) (sz : Nat) {a0 : Nat} {a1 : Int32} {Q : S → Prop} (hF : P_X7_goesTo g a0 a1 ι Q) : CGv l yX7_goesTo cX7_goesTo 2 ({ frames := 2107, cells := 0, slots := 0, locals := 44960 } : Room) D dA ad g ι sz [pX a0, iX a1] Q := by
  unfold P_X7_goesTo at hF
  refine ph_enter [pX a0, iX a1] (Qc := fun A => va_Qv (GQv g Q) (CB D dA ad A) A) (by decide +kernel) (Nat.le_of_ble_eq_true rfl) ?_
  intro p e s m args below meth c A ls X hP hl hnm
  have hl : LH ad ls 2 [(0, pX a0), (1, iX a1)] := hl
  refine ph_aload_n (n := 0) X hl dX7_goesTo_0 rfl rfl ?_
  obtain ⟨hm9, hF⟩ := hF
  refine cg_callVv 6 [] X hP hm9 (met_X7_begins l D dA ad g _ _ hF) (cwV 0 X.2.2.2.2.1 (lw_V q969 q970 q971 q124 q972) rfl rfl rfl (by decide +kernel) ⟨Nat.le_of_ble_eq_true rfl, Nat.le_of_ble_eq_true rfl⟩) rfl hl (k8 := 0) (cs0 (k := 0)) (by decide) ⟨Nat.le_refl _, Nat.le_refl _⟩ dX7_goesTo_1 rfl (fun ι7 H locs hF hP => ?_)
  obtain ⟨n9, hF⟩ := hF
  exact w_X7_goesTo_4 X n9 _ _ _ _ _ _ hF hP hl
def P_X7_all (g : GT) (a0 : Nat) (ι : S) (Q : S → Prop) : Prop := (gK g a0 = 7 ∧ (gK g (gR g a0 0) = 3 ∧ (P_X7_goesTo g a0 (ι (gR g a0 0) 2) ι (fun ι4 => (Q ι4)))))
set_option maxHeartbeats 2000000 in
theorem met_X7_all (l : Launch) (D : va_G) (dA : Nat → ClassId) (ad : Nat → Nat) (g : GT) (ι : S) (sz : Nat) {a0 : Nat} {Q : S → Prop} (hF : P_X7_all g a0 ι Q) : CGv l yX7_all cX7_all 1 ({ frames := 2108, cells := 0, slots := 0, locals := 44981 } : Room) D dA ad g ι sz [pX a0] Q := by
  unfold P_X7_all at hF
  refine ph_enter [pX a0] (Qc := fun A => va_Qv (GQv g Q) (CB D dA ad A) A) (by decide +kernel) (Nat.le_of_ble_eq_true rfl) ?_
  intro p e s m args below meth c A ls X hP hl hnm
  have hl : LH ad ls 1 [(0, pX a0)] := hl
  refine ph_aload_n (n := 0) X hl dX7_all_0 rfl rfl ?_
  refine ph_aload_n (n := 0) X hl dX7_all_1 rfl rfl ?_
  obtain ⟨hm1, hF⟩ := hF
  refine cg_getr 6 0 X in_X7 hP hm1 q717 dX7_all_2 ?_
  obtain ⟨hm2, hF⟩ := hF
  refine cg_getiN 2 2 X in_X2 hP hm2 q525 dX7_all_5 ?_
  refine cg_callVv 6 [iX (ι (gR g a0 0) 2)] X hP hm1 (met_X7_goesTo l D dA ad g _ _ hF) (cwV 1 X.2.2.2.2.1 (lw_V q965 q966 q967 q124 q968) rfl rfl rfl (by decide +kernel) ⟨Nat.le_of_ble_eq_true rfl, Nat.le_of_ble_eq_true rfl⟩) rfl hl (k8 := 0) (cs0 (k := 0)) (by decide) ⟨Nat.le_refl _, Nat.le_refl _⟩ dX7_all_8 rfl (fun ι4 H locs hF hP => ?_)
  exact cg_vret X hP hF dX7_all_11
def P_X7_wokenAll_4 (g : GT) (Q : Int32 → S → Prop) : Nat → Nat → Int32 → Int32 → S → Prop
  | 0, _, _, _, _ => False
  | n + 1, x0, x1, x2, ι => (gK g x0 = 7 ∧ (gK g (gR g x0 1) = 6 ∧ (((ι (gR g x0 1) 2) ≤ x2 → (Q x1 ι)) ∧ (¬ (ι (gR g x0 1) 2) ≤ x2 → (gK g (gR g (gR g x0 1) 0) = 100 ∧ (vp_in x2 (gL g (gR g (gR g x0 1) 0)) ∧ (gK g (gR g x0 4) = 100 ∧ (vp_in (ι (gR g (gR g x0 1) 0) x2.toNatClampNeg) (gL g (gR g x0 4)) ∧ (P_X7_wokenAll_4 g Q  n x0 (x1 + (ι (gR g x0 4) ((ι (gR g (gR g x0 1) 0) x2.toNatClampNeg).toNatClampNeg))) (x2 + 1) ι)))))))))
def P_X7_wokenAll (g : GT) (a0 : Nat) (ι : S) (Q : Int32 → S → Prop) : Prop := (∃ n9, P_X7_wokenAll_4 g Q n9 a0 0 0 ι)
set_option maxHeartbeats 2000000 in
theorem w_X7_wokenAll_4 (X : CX p s m args c meth cX7_wokenAll 3 (some .int) RX7 D dA ad A) {Q : Int32 → S → Prop} : ∀ (n : Nat) (x0 : Nat) (x1 : Int32) (x2 : Int32) (ι : S) (H : Heap) (locs : List Loc) (ls : Array Slot), P_X7_wokenAll_4 g Q n x0 x1 x2 ι → PW D dA A s.heap ad (HS g ι) H locs → LH ad ls 3 [(0, pX x0), (1, iX x1), (2, iX x2)] → WGi p l e ({ frames := 0, cells := 0, slots := 0, locals := 0 } : Room) s m args below meth c D dA ad A g Q H locs (F0 m 4 ls []) := by
  intro n
  induction n with
  | zero =>
    intro x0 x1 x2 ι H locs ls hF
    exact hF.elim
  | succ n ih =>
    intro x0 x1 x2 ι H locs ls hF hP hl
    rw [P_X7_wokenAll_4] at hF
    refine ph_iload_n (n := 2) X hl dX7_wokenAll_4 rfl rfl ?_
    refine ph_aload_n (n := 0) X hl dX7_wokenAll_5 rfl rfl ?_
    obtain ⟨hm1, hF⟩ := hF
    refine cg_getr 6 1 X in_X7 hP hm1 q718 dX7_wokenAll_6 ?_
    obtain ⟨hm2, hF⟩ := hF
    refine cg_getiN 5 2 X in_X6 hP hm2 q587 dX7_wokenAll_9 ?_
    refine lv_icmp_ge (tgt := 38) X.1 X.2.1 dX7_wokenAll_12 (by decide) (fun c7 => ?_) (fun c7 => ?_)
    · have hF := hF.1 c7
      refine ph_iload_n (n := 1) X hl dX7_wokenAll_38 rfl rfl ?_
      exact cg_iret X hP hF dX7_wokenAll_39
    · have hF := hF.2 c7
      refine ph_iload_n (n := 1) X hl dX7_wokenAll_15 rfl rfl ?_
      refine ph_aload_n (n := 0) X hl dX7_wokenAll_16 rfl rfl ?_
      refine cg_getr 6 4 X in_X7 hP hm1 q722 dX7_wokenAll_17 ?_
      refine ph_aload_n (n := 0) X hl dX7_wokenAll_20 rfl rfl ?_
      refine cg_getr 6 1 X in_X7 hP hm1 q718 dX7_wokenAll_21 ?_
      refine cg_getrN 5 0 X in_X6 hP hm2 q581 dX7_wokenAll_24 ?_
      refine ph_iload_n (n := 2) X hl dX7_wokenAll_27 rfl rfl ?_
      obtain ⟨hm3, hF⟩ := hF
      obtain ⟨hr4, hF⟩ := hF
      refine cg_iald X hP hm3 hr4 (k := x2.toNatClampNeg) rfl dX7_wokenAll_28 ?_
      obtain ⟨hm5, hF⟩ := hF
      obtain ⟨hr6, hF⟩ := hF
      refine cg_iald X hP hm5 hr6 (k := (ι (gR g (gR g x0 1) 0) x2.toNatClampNeg).toNatClampNeg) rfl dX7_wokenAll_29 ?_
      refine lv_iadd X.1 X.2.1 dX7_wokenAll_30 ?_
      refine ph_istore_n X hl dX7_wokenAll_31 rfl (by decide) rfl (fun ls hl => ?_)
      refine ph_iinc (v := x2 + 1) (k := 2) X hl dX7_wokenAll_32 rfl rfl (by decide) rfl (fun ls hl => ?_)
      refine lv_goto (tgt := 4) X.1 X.2.1 dX7_wokenAll_35 (by decide) ?_
      exact ih _ _ _ _ _ _ _ hF hP (lh_sub hl [2, 1, 0] rfl)
set_option maxHeartbeats 2000000 in
theorem met_X7_wokenAll (l : Launch) (D : va_G) (dA : Nat → ClassId) (ad : Nat → Nat) (g : GT) (ι : S) (sz : Nat) {a0 : Nat} {Q : Int32 → S → Prop} (hF : P_X7_wokenAll g a0 ι Q) : CGi l yX7_wokenAll cX7_wokenAll 3 .int ({ frames := 0, cells := 0, slots := 0, locals := 0 } : Room) D dA ad g ι sz [pX a0] Q := by
  unfold P_X7_wokenAll at hF
  refine ph_enter [pX a0] (Qc := fun A => va_Qi (GQi g Q) (CB D dA ad A) A) (by decide +kernel) (Nat.le_of_ble_eq_true rfl) ?_
  intro p e s m args below meth c A ls X hP hl hnm
  have hl : LH ad ls 3 [(0, pX a0)] := hl
  refine lv_iconst (v := 0) X.1 X.2.1 dX7_wokenAll_0 (by decide) ?_
  refine ph_istore_n X hl dX7_wokenAll_1 rfl (by decide) rfl (fun ls hl => ?_)
  refine lv_iconst (v := 0) X.1 X.2.1 dX7_wokenAll_2 (by decide) ?_
  refine ph_istore_n X hl dX7_wokenAll_3 rfl (by decide) rfl (fun ls hl => ?_)
  obtain ⟨n9, hF⟩ := hF
  exact w_X7_wokenAll_4 X n9 _ _ _ _ _ _ _ hF hP (lh_sub hl [2, 1, 0] rfl)
def P_X5_like_13 (g : GT) (Q : S → Prop) : Nat → Nat → Nat → Int32 → S → Prop
  | 0, _, _, _, _ => False
  | n + 1, x0, x1, x2, ι => (gK g x1 = 5 ∧ (((ι x1 6) ≤ x2 → (gK g x0 = 5 ∧ (gK g (gR g x1 2) = 100 ∧ (gK g (gR g x0 2) = 100 ∧ (8 ≤ gL g (gR g x1 2) ∧ (8 ≤ gL g (gR g x0 2) ∧ (∀ ι7, ι7 = va_up ι (gR g x0 2) (va_cpy (ι (gR g x1 2)) (ι (gR g x0 2)) 0 0 8) → (gK g (gR g x1 3) = 100 ∧ (gK g (gR g x0 3) = 100 ∧ (8 ≤ gL g (gR g x1 3) ∧ (8 ≤ gL g (gR g x0 3) ∧ (∀ ι12, ι12 = va_up ι7 (gR g x0 3) (va_cpy (ι7 (gR g x1 3)) (ι7 (gR g x0 3)) 0 0 8) → (gK g (gR g x1 4) = 100 ∧ (gK g (gR g x0 4) = 100 ∧ (8 ≤ gL g (gR g x1 4) ∧ (8 ≤ gL g (gR g x0 4) ∧ (∀ ι17, ι17 = va_up ι12 (gR g x0 4) (va_cpy (ι12 (gR g x1 4)) (ι12 (gR g x0 4)) 0 0 8) → (gK g (gR g x0 5) = 100 ∧ (gK g (gR g x1 5) = 100 ∧ (¬ (nI (gL g (gR g x0 5))) < 0 ∧ ((nI (gL g (gR g x0 5))).toNatClampNeg ≤ gL g (gR g x1 5) ∧ ((nI (gL g (gR g x0 5))).toNatClampNeg ≤ gL g (gR g x0 5) ∧ (∀ ι22, ι22 = va_up ι17 (gR g x0 5) (va_cpy (ι17 (gR g x1 5)) (ι17 (gR g x0 5)) 0 0 ((nI (gL g (gR g x0 5))).toNatClampNeg)) → (∀ ι24, ι24 = up2 ι22 x0 6 (ι22 x1 6) → (∀ ι25, ι25 = up2 ι24 x0 7 (ι24 x1 7) → (Q ι25)))))))))))))))))))))))))) ∧ (¬ (ι x1 6) ≤ x2 → (gK g x0 = 5 ∧ (gK g (gR g x0 1) = 18 ∧ (P_J2_get g (gR g x0 1) x2 ι (fun r27 ι28 => (gK g r27 = 6 ∧ (gK g (gR g x1 1) = 18 ∧ (P_J2_get g (gR g x1 1) x2 ι28 (fun r32 ι33 => (gK g r32 = 6 ∧ (P_X6_like g r27 r32 ι33 (fun ι38 => (P_X5_like_13 g Q  n x0 x1 (x2 + 1) ι38)))))))))))))))
def P_X5_like (g : GT) (a0 : Nat) (a1 : Nat) (ι : S) (Q : S → Prop) : Prop := (gK g a0 = 5 ∧ (gK g a1 = 5 ∧ (gK g (gR g a0 0) = 6 ∧ (P_X6_like g (gR g a0 0) (gR g a1 0) ι (fun ι44 => (∃ n9, P_X5_like_13 g Q n9 a0 a1 0 ι44))))))
set_option maxHeartbeats 2000000 in
theorem w_X5_like_13 (X : CX p s m args c meth cX5_like 3 none RX5 D dA ad A) {Q : S → Prop} : ∀ (n : Nat) (x0 : Nat) (x1 : Nat) (x2 : Int32) (ι : S) (H : Heap) (locs : List Loc) (ls : Array Slot), P_X5_like_13 g Q n x0 x1 x2 ι → PW D dA A s.heap ad (HS g ι) H locs → LH ad ls 3 [(0, pX x0), (1, pX x1), (2, iX x2)] → WGv p l e ({ frames := 3, cells := 0, slots := 0, locals := 81 } : Room) s m args below meth c D dA ad A g Q H locs (F0 m 13 ls []) := by
  intro n
  induction n with
  | zero =>
    intro x0 x1 x2 ι H locs ls hF
    exact hF.elim
  | succ n ih =>
    intro x0 x1 x2 ι H locs ls hF hP hl
    rw [P_X5_like_13] at hF
    refine ph_iload_n (n := 2) X hl dX5_like_13 rfl rfl ?_
    refine ph_aload_n (n := 1) X hl dX5_like_14 rfl rfl ?_
    obtain ⟨hm1, hF⟩ := hF
    refine cg_geti 4 6 X in_X5 hP hm1 q688 dX5_like_15 ?_
    refine lv_icmp_ge (tgt := 52) X.1 X.2.1 dX5_like_18 (by decide) (fun c40 => ?_) (fun c40 => ?_)
    · have hF := hF.1 c40
      refine ph_aload_n (n := 1) X hl dX5_like_52 rfl rfl ?_
      refine cg_getr 4 2 X in_X5 hP hm1 q680 dX5_like_53 ?_
      refine lv_iconst (v := 0) X.1 X.2.1 dX5_like_56 (by decide) ?_
      refine ph_aload_n (n := 0) X hl dX5_like_57 rfl rfl ?_
      obtain ⟨hm2, hF⟩ := hF
      refine cg_getr 4 2 X in_X5 hP hm2 q680 dX5_like_58 ?_
      refine lv_iconst (v := 0) X.1 X.2.1 dX5_like_61 (by decide) ?_
      refine lv_bipush (v := 8) X.1 X.2.1 dX5_like_62 (by decide) ?_
      obtain ⟨hm3, hF⟩ := hF
      obtain ⟨hm4, hF⟩ := hF
      obtain ⟨hr5, hF⟩ := hF
      obtain ⟨hr6, hF⟩ := hF
      refine cg_copyi (a := 0) (b := 0) (k := 8) X hP hl q1147 q289 q288 q114 hm3 hm4 (by decide) (by decide) (by decide) (by decide) (by decide) (by decide) hr5 hr6 (Nat.le_of_ble_eq_true rfl) (Nat.le_trans (Nat.add_le_add_right (cs0 (k := 0)) _) (by decide +kernel)) dX5_like_64 hF (fun H locs ι7 hP hF => ?_)
      refine ph_aload_n (n := 1) X hl dX5_like_67 rfl rfl ?_
      refine cg_getr 4 3 X in_X5 hP hm1 q682 dX5_like_68 ?_
      refine lv_iconst (v := 0) X.1 X.2.1 dX5_like_71 (by decide) ?_
      refine ph_aload_n (n := 0) X hl dX5_like_72 rfl rfl ?_
      refine cg_getr 4 3 X in_X5 hP hm2 q682 dX5_like_73 ?_
      refine lv_iconst (v := 0) X.1 X.2.1 dX5_like_76 (by decide) ?_
      refine lv_bipush (v := 8) X.1 X.2.1 dX5_like_77 (by decide) ?_
      obtain ⟨hm8, hF⟩ := hF
      obtain ⟨hm9, hF⟩ := hF
      obtain ⟨hr10, hF⟩ := hF
      obtain ⟨hr11, hF⟩ := hF
      refine cg_copyi (a := 0) (b := 0) (k := 8) X hP hl q1147 q289 q288 q114 hm8 hm9 (by decide) (by decide) (by decide) (by decide) (by decide) (by decide) hr10 hr11 (Nat.le_of_ble_eq_true rfl) (Nat.le_trans (Nat.add_le_add_right (cs0 (k := 0)) _) (by decide +kernel)) dX5_like_79 hF (fun H locs ι12 hP hF => ?_)
      refine ph_aload_n (n := 1) X hl dX5_like_82 rfl rfl ?_
      refine cg_getr 4 4 X in_X5 hP hm1 q684 dX5_like_83 ?_
      refine lv_iconst (v := 0) X.1 X.2.1 dX5_like_86 (by decide) ?_
      refine ph_aload_n (n := 0) X hl dX5_like_87 rfl rfl ?_
      refine cg_getr 4 4 X in_X5 hP hm2 q684 dX5_like_88 ?_
      refine lv_iconst (v := 0) X.1 X.2.1 dX5_like_91 (by decide) ?_
      refine lv_bipush (v := 8) X.1 X.2.1 dX5_like_92 (by decide) ?_
      obtain ⟨hm13, hF⟩ := hF
      obtain ⟨hm14, hF⟩ := hF
      obtain ⟨hr15, hF⟩ := hF
      obtain ⟨hr16, hF⟩ := hF
      refine cg_copyi (a := 0) (b := 0) (k := 8) X hP hl q1147 q289 q288 q114 hm13 hm14 (by decide) (by decide) (by decide) (by decide) (by decide) (by decide) hr15 hr16 (Nat.le_of_ble_eq_true rfl) (Nat.le_trans (Nat.add_le_add_right (cs0 (k := 0)) _) (by decide +kernel)) dX5_like_94 hF (fun H locs ι17 hP hF => ?_)
      refine ph_aload_n (n := 1) X hl dX5_like_97 rfl rfl ?_
      refine cg_getr 4 5 X in_X5 hP hm1 q686 dX5_like_98 ?_
      refine lv_iconst (v := 0) X.1 X.2.1 dX5_like_101 (by decide) ?_
      refine ph_aload_n (n := 0) X hl dX5_like_102 rfl rfl ?_
      refine cg_getr 4 5 X in_X5 hP hm2 q686 dX5_like_103 ?_
      refine lv_iconst (v := 0) X.1 X.2.1 dX5_like_106 (by decide) ?_
      refine ph_aload_n (n := 0) X hl dX5_like_107 rfl rfl ?_
      refine cg_getr 4 5 X in_X5 hP hm2 q686 dX5_like_108 ?_
      obtain ⟨hm18, hF⟩ := hF
      refine cg_alenI X hP hm18 dX5_like_111 ?_
      obtain ⟨hm19, hF⟩ := hF
      obtain ⟨hr23, hF⟩ := hF
      obtain ⟨hr20, hF⟩ := hF
      obtain ⟨hr21, hF⟩ := hF
      refine cg_copyi (a := 0) (b := 0) (k := (nI (gL g (gR g x0 5))).toNatClampNeg) X hP hl q1147 q289 q288 q114 hm19 hm18 (by decide) (by decide) hr23 (by decide) (by decide) rfl (by rw [Nat.zero_add]; exact hr20) (by rw [Nat.zero_add]; exact hr21) (Nat.le_of_ble_eq_true rfl) (Nat.le_trans (Nat.add_le_add_right (cs0 (k := 0)) _) (by decide +kernel)) dX5_like_112 hF (fun H locs ι22 hP hF => ?_)
      refine ph_aload_n (n := 0) X hl dX5_like_115 rfl rfl ?_
      refine ph_aload_n (n := 1) X hl dX5_like_116 rfl rfl ?_
      refine cg_geti 4 6 X in_X5 hP hm1 q688 dX5_like_117 ?_
      refine cg_puti 4 6 X in_X5 tyX5 tyX5_ok nmX5 hP hm2 q688 dX5_like_120 hF (fun H locs ι24 hP hF => ?_)
      refine ph_aload_n (n := 0) X hl dX5_like_123 rfl rfl ?_
      refine ph_aload_n (n := 1) X hl dX5_like_124 rfl rfl ?_
      refine cg_geti 4 7 X in_X5 hP hm1 q690 dX5_like_125 ?_
      refine cg_puti 4 7 X in_X5 tyX5 tyX5_ok nmX5 hP hm2 q690 dX5_like_128 hF (fun H locs ι25 hP hF => ?_)
      exact cg_vret X hP hF dX5_like_131
    · have hF := hF.2 c40
      refine ph_aload_n (n := 0) X hl dX5_like_21 rfl rfl ?_
      obtain ⟨hm26, hF⟩ := hF
      refine cg_getr 4 1 X in_X5 hP hm26 q678 dX5_like_22 ?_
      refine ph_iload_n (n := 2) X hl dX5_like_25 rfl rfl ?_
      obtain ⟨hm30, hF⟩ := hF
      refine cg_callVq 17 [iX x2] X hP hm30 (met_J2_get l D dA ad g _ _ hF) (cwV 1 X.2.2.2.2.1 (lw_V q905 q778 q779 q102 q780) rfl rfl rfl (by decide +kernel) ⟨Nat.le_of_ble_eq_true rfl, Nat.le_of_ble_eq_true rfl⟩) rfl hl (k8 := 0) (cs0 (k := 0)) (by decide) ⟨Nat.le_refl _, Nat.le_refl _⟩ dX5_like_26 rfl (fun r27 ι28 H locs hF hv29 hP => ?_)
      obtain ⟨hm31, hF⟩ := hF
      refine cg_castS 5 X hP hm31 q574 dX5_like_29 ?_
      refine ph_aload_n (n := 1) X hl dX5_like_32 rfl rfl ?_
      refine cg_getr 4 1 X in_X5 hP hm1 q678 dX5_like_33 ?_
      refine ph_iload_n (n := 2) X hl dX5_like_36 rfl rfl ?_
      obtain ⟨hm35, hF⟩ := hF
      refine cg_callVq 17 [iX x2] X hP hm35 (met_J2_get l D dA ad g _ _ hF) (cwV 1 X.2.2.2.2.1 (lw_V q905 q778 q779 q102 q780) rfl rfl rfl (by decide +kernel) ⟨Nat.le_of_ble_eq_true rfl, Nat.le_of_ble_eq_true rfl⟩) rfl hl (k8 := 1) (csr (cs0 (k := 0))) (by decide) ⟨Nat.le_refl _, Nat.le_refl _⟩ dX5_like_37 rfl (fun r32 ι33 H locs hF hv34 hP => ?_)
      obtain ⟨hm36, hF⟩ := hF
      refine cg_castS 5 X hP hm36 q574 dX5_like_40 ?_
      refine cg_callVv 5 [pX r32] X hP hm31 (met_X6_like l D dA ad g _ _ hF) (cwV 1 X.2.2.2.2.1 (lw_V q906 q907 q908 q123 q909) rfl rfl rfl (by decide +kernel) ⟨Nat.le_of_ble_eq_true rfl, Nat.le_of_ble_eq_true rfl⟩) rfl hl (k8 := 0) (cs0 (k := 0)) (by decide) ⟨Nat.le_refl _, Nat.le_refl _⟩ dX5_like_43 rfl (fun ι38 H locs hF hP => ?_)
      refine ph_iinc (v := x2 + 1) (k := 2) X hl dX5_like_46 rfl rfl (by decide) rfl (fun ls hl => ?_)
      refine lv_goto (tgt := 13) X.1 X.2.1 dX5_like_49 (by decide) ?_
      exact ih _ _ _ _ _ _ _ hF hP (lh_sub hl [1, 2, 0] rfl)
set_option maxHeartbeats 2000000 in
theorem met_X5_like (l : Launch) (D : va_G) (dA : Nat → ClassId) (ad : Nat → Nat) (g : GT) (ι : S) (sz : Nat) {a0 : Nat} {a1 : Nat} {Q : S → Prop} (hF : P_X5_like g a0 a1 ι Q) : CGv l yX5_like cX5_like 3 ({ frames := 3, cells := 0, slots := 0, locals := 81 } : Room) D dA ad g ι sz [pX a0, pX a1] Q := by
  unfold P_X5_like at hF
  refine ph_enter [pX a0, pX a1] (Qc := fun A => va_Qv (GQv g Q) (CB D dA ad A) A) (by decide +kernel) (Nat.le_of_ble_eq_true rfl) ?_
  intro p e s m args below meth c A ls X hP hl hnm
  have hl : LH ad ls 3 [(0, pX a0), (1, pX a1)] := hl
  refine ph_aload_n (n := 0) X hl dX5_like_0 rfl rfl ?_
  obtain ⟨hm41, hF⟩ := hF
  refine cg_getr 4 0 X in_X5 hP hm41 q676 dX5_like_1 ?_
  refine ph_aload_n (n := 1) X hl dX5_like_4 rfl rfl ?_
  obtain ⟨hm42, hF⟩ := hF
  refine cg_getr 4 0 X in_X5 hP hm42 q676 dX5_like_5 ?_
  obtain ⟨hm46, hF⟩ := hF
  refine cg_callVv 5 [pX (gR g a1 0)] X hP hm46 (met_X6_like l D dA ad g _ _ hF) (cwV 1 X.2.2.2.2.1 (lw_V q906 q907 q908 q123 q909) rfl rfl rfl (by decide +kernel) ⟨Nat.le_of_ble_eq_true rfl, Nat.le_of_ble_eq_true rfl⟩) rfl hl (k8 := 0) (cs0 (k := 0)) (by decide) ⟨Nat.le_refl _, Nat.le_refl _⟩ dX5_like_8 rfl (fun ι44 H locs hF hP => ?_)
  refine lv_iconst (v := 0) X.1 X.2.1 dX5_like_11 (by decide) ?_
  refine ph_istore_n X hl dX5_like_12 rfl (by decide) rfl (fun ls hl => ?_)
  obtain ⟨n9, hF⟩ := hF
  exact w_X5_like_13 X n9 _ _ _ _ _ _ _ hF hP (lh_sub hl [1, 2, 0] rfl)
end CGA
