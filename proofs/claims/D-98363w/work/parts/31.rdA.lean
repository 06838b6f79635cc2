set_option maxRecDepth 100000
section CGA
variable {p : Program} {l : Launch} {e : Env} {s : State} {m : MethodId} {args : Array Value} {below : List Frame} {meth : Method} {c : Code} {D : va_G} {dA : Nat → ClassId} {ad : Nat → Nat} {A : Nat → Prop} {g : GT}
def P_X9_byteAt (g : GT) (a0 : Nat) (a1 : Int32) (ι : S) (Q : Int32 → S → Prop) : Prop := (gK g a0 = 8 ∧ (((ι a0 1) ≤ a1 → (Q 0 ι)) ∧ (¬ (ι a0 1) ≤ a1 → (gK g (gR g a0 0) = 101 ∧ (vp_in a1 (gL g (gR g a0 0)) ∧ (Q ((ι (gR g a0 0) a1.toNatClampNeg) &&& 255) ι))))))
set_option maxHeartbeats 2000000 in
theorem met_X9_byteAt (l : Launch) (D : va_G) (dA : Nat → ClassId) (ad : Nat → Nat) (g : GT) (ι : S) (sz : Nat) {a0 : Nat} {a1 : Int32} {Q : Int32 → S → Prop} (hF : P_X9_byteAt g a0 a1 ι Q) : CGi l yX9_byteAt cX9_byteAt 2 .int ({ frames := 0, cells := 0, slots := 0, locals := 0 } : Room) D dA ad g ι sz [pX a0, iX a1] Q := by
  unfold P_X9_byteAt at hF
  refine ph_enter [pX a0, iX a1] (Qc := fun A => va_Qi (GQi g Q) (CB D dA ad A) A) (by decide +kernel) (Nat.le_of_ble_eq_true rfl) ?_
  intro p e s m args below meth c A ls X hP hl hnm
  have hl : LH ad ls 2 [(0, pX a0), (1, iX a1)] := hl
  refine ph_iload_n (n := 1) X hl dX9_byteAt_0 rfl rfl ?_
  refine ph_aload_n (n := 0) X hl dX9_byteAt_1 rfl rfl ?_
  obtain ⟨hm1, hF⟩ := hF
  refine cg_geti 7 1 X in_X9 hP hm1 q1250 dX9_byteAt_2 ?_
  refine lv_icmp_ge (tgt := 21) X.1 X.2.1 dX9_byteAt_5 (by decide) (fun c4 => ?_) (fun c4 => ?_)
  · have hF := hF.1 c4
    refine lv_iconst (v := 0) X.1 X.2.1 dX9_byteAt_21 (by decide) ?_
    exact cg_iret X hP hF dX9_byteAt_22
  · have hF := hF.2 c4
    refine ph_aload_n (n := 0) X hl dX9_byteAt_8 rfl rfl ?_
    refine cg_getr 7 0 X in_X9 hP hm1 q1249 dX9_byteAt_9 ?_
    refine ph_iload_n (n := 1) X hl dX9_byteAt_12 rfl rfl ?_
    obtain ⟨hm2, hF⟩ := hF
    obtain ⟨hr3, hF⟩ := hF
    refine cg_bald X hP hm2 hr3 (k := a1.toNatClampNeg) rfl dX9_byteAt_13 ?_
    refine lv_sipush (v := 255) X.1 X.2.1 dX9_byteAt_14 (by decide) ?_
    refine lv_iand X.1 X.2.1 dX9_byteAt_17 ?_
    refine lv_goto (tgt := 22) X.1 X.2.1 dX9_byteAt_18 (by decide) ?_
    exact cg_iret X hP hF dX9_byteAt_22
def P_X9_isLetter (g : GT) (a0 : Int32) (ι : S) (Q : Int32 → S → Prop) : Prop := ((a0 < 97 → (Q 0 ι)) ∧ (¬ a0 < 97 → ((122 < a0 → (Q 0 ι)) ∧ (¬ 122 < a0 → (Q 1 ι)))))
set_option maxHeartbeats 2000000 in
theorem met_X9_isLetter (l : Launch) (D : va_G) (dA : Nat → ClassId) (ad : Nat → Nat) (g : GT) (ι : S) (sz : Nat) {a0 : Int32} {Q : Int32 → S → Prop} (hF : P_X9_isLetter g a0 ι Q) : CGi l yX9_isLetter cX9_isLetter 1 .boolean ({ frames := 0, cells := 0, slots := 0, locals := 0 } : Room) D dA ad g ι sz [iX a0] Q := by
  unfold P_X9_isLetter at hF
  refine ph_enter [iX a0] (Qc := fun A => va_Qi (GQi g Q) (CB D dA ad A) A) (by decide +kernel) (Nat.le_of_ble_eq_true rfl) ?_
  intro p e s m args below meth c A ls X hP hl hnm
  have hl : LH ad ls 1 [(0, iX a0)] := hl
  refine ph_iload_n (n := 0) X hl dX9_isLetter_0 rfl rfl ?_
  refine lv_bipush (v := 97) X.1 X.2.1 dX9_isLetter_1 (by decide) ?_
  refine lv_icmp_lt (tgt := 16) X.1 X.2.1 dX9_isLetter_3 (by decide) (fun c2 => ?_) (fun c2 => ?_)
  · have hF := hF.1 c2
    refine lv_iconst (v := 0) X.1 X.2.1 dX9_isLetter_16 (by decide) ?_
    exact cg_zret X hP isB_0 hF dX9_isLetter_17
  · have hF := hF.2 c2
    refine ph_iload_n (n := 0) X hl dX9_isLetter_6 rfl rfl ?_
    refine lv_bipush (v := 122) X.1 X.2.1 dX9_isLetter_7 (by decide) ?_
    refine lv_icmp_gt (tgt := 16) X.1 X.2.1 dX9_isLetter_9 (by decide) (fun c1 => ?_) (fun c1 => ?_)
    · have hF := hF.1 c1
      refine lv_iconst (v := 0) X.1 X.2.1 dX9_isLetter_16 (by decide) ?_
      exact cg_zret X hP isB_0 hF dX9_isLetter_17
    · have hF := hF.2 c1
      refine lv_iconst (v := 1) X.1 X.2.1 dX9_isLetter_12 (by decide) ?_
      refine lv_goto (tgt := 17) X.1 X.2.1 dX9_isLetter_13 (by decide) ?_
      exact cg_zret X hP isB_1 hF dX9_isLetter_17
def P_X9_isDigit (g : GT) (a0 : Int32) (ι : S) (Q : Int32 → S → Prop) : Prop := ((a0 < 48 → (Q 0 ι)) ∧ (¬ a0 < 48 → ((57 < a0 → (Q 0 ι)) ∧ (¬ 57 < a0 → (Q 1 ι)))))
set_option maxHeartbeats 2000000 in
theorem met_X9_isDigit (l : Launch) (D : va_G) (dA : Nat → ClassId) (ad : Nat → Nat) (g : GT) (ι : S) (sz : Nat) {a0 : Int32} {Q : Int32 → S → Prop} (hF : P_X9_isDigit g a0 ι Q) : CGi l yX9_isDigit cX9_isDigit 1 .boolean ({ frames := 0, cells := 0, slots := 0, locals := 0 } : Room) D dA ad g ι sz [iX a0] Q := by
  unfold P_X9_isDigit at hF
  refine ph_enter [iX a0] (Qc := fun A => va_Qi (GQi g Q) (CB D dA ad A) A) (by decide +kernel) (Nat.le_of_ble_eq_true rfl) ?_
  intro p e s m args below meth c A ls X hP hl hnm
  have hl : LH ad ls 1 [(0, iX a0)] := hl
  refine ph_iload_n (n := 0) X hl dX9_isDigit_0 rfl rfl ?_
  refine lv_bipush (v := 48) X.1 X.2.1 dX9_isDigit_1 (by decide) ?_
  refine lv_icmp_lt (tgt := 16) X.1 X.2.1 dX9_isDigit_3 (by decide) (fun c2 => ?_) (fun c2 => ?_)
  · have hF := hF.1 c2
    refine lv_iconst (v := 0) X.1 X.2.1 dX9_isDigit_16 (by decide) ?_
    exact cg_zret X hP isB_0 hF dX9_isDigit_17
  · have hF := hF.2 c2
    refine ph_iload_n (n := 0) X hl dX9_isDigit_6 rfl rfl ?_
    refine lv_bipush (v := 57) X.1 X.2.1 dX9_isDigit_7 (by decide) ?_
    refine lv_icmp_gt (tgt := 16) X.1 X.2.1 dX9_isDigit_9 (by decide) (fun c1 => ?_) (fun c1 => ?_)
    · have hF := hF.1 c1
      refine lv_iconst (v := 0) X.1 X.2.1 dX9_isDigit_16 (by decide) ?_
      exact cg_zret X hP isB_0 hF dX9_isDigit_17
    · have hF := hF.2 c1
      refine lv_iconst (v := 1) X.1 X.2.1 dX9_isDigit_12 (by decide) ?_
      refine lv_goto (tgt := 17) X.1 X.2.1 dX9_isDigit_13 (by decide) ?_
      exact cg_zret X hP isB_1 hF dX9_isDigit_17
def P_X9_isSign_54 (g : GT) (Q : Int32 → S → Prop)  (ι : S) : Prop := (Q 1 ι)
def P_X9_isSign (g : GT) (a0 : Int32) (ι : S) (Q : Int32 → S → Prop) : Prop := ((a0 = 59 → (P_X9_isSign_54 g Q ι)) ∧ (¬ a0 = 59 → ((a0 = 40 → (P_X9_isSign_54 g Q ι)) ∧ (¬ a0 = 40 → ((a0 = 41 → (P_X9_isSign_54 g Q ι)) ∧ (¬ a0 = 41 → ((a0 = 43 → (P_X9_isSign_54 g Q ι)) ∧ (¬ a0 = 43 → ((a0 = 45 → (P_X9_isSign_54 g Q ι)) ∧ (¬ a0 = 45 → ((a0 = 42 → (P_X9_isSign_54 g Q ι)) ∧ (¬ a0 = 42 → ((a0 = 47 → (P_X9_isSign_54 g Q ι)) ∧ (¬ a0 = 47 → ((a0 = 60 → (P_X9_isSign_54 g Q ι)) ∧ (¬ a0 = 60 → ((¬ a0 = 61 → (Q 0 ι)) ∧ (a0 = 61 → (P_X9_isSign_54 g Q ι)))))))))))))))))))
set_option maxHeartbeats 2000000 in
theorem w_X9_isSign_54 (X : CX p s m args c meth cX9_isSign 1 (some .boolean) RX9 D dA ad A) {Q : Int32 → S → Prop} : ∀  (ι : S) (H : Heap) (locs : List Loc) (ls : Array Slot), P_X9_isSign_54 g Q  ι → PW D dA A s.heap ad (HS g ι) H locs → LH ad ls 1 [] → WGi p l e ({ frames := 0, cells := 0, slots := 0, locals := 0 } : Room) s m args below meth c D dA ad A g Q H locs (F0 m 54 ls []) := by
  intro  ι H locs ls hF hP hl
  unfold P_X9_isSign_54 at hF
  refine lv_iconst (v := 1) X.1 X.2.1 dX9_isSign_54 (by decide) ?_
  refine lv_goto (tgt := 59) X.1 X.2.1 dX9_isSign_55 (by decide) ?_
  exact cg_zret X hP isB_1 hF dX9_isSign_59
set_option maxHeartbeats 2000000 in
theorem met_X9_isSign (l : Launch) (D : va_G) (dA : Nat → ClassId) (ad : Nat → Nat) (g : GT) (ι : S) (sz : Nat) {a0 : Int32} {Q : Int32 → S → Prop} (hF : P_X9_isSign g a0 ι Q) : CGi l yX9_isSign cX9_isSign 1 .boolean ({ frames := 0, cells := 0, slots := 0, locals := 0 } : Room) D dA ad g ι sz [iX a0] Q := by
  unfold P_X9_isSign at hF
  refine ph_enter [iX a0] (Qc := fun A => va_Qi (GQi g Q) (CB D dA ad A) A) (by decide +kernel) (Nat.le_of_ble_eq_true rfl) ?_
  intro p e s m args below meth c A ls X hP hl hnm
  have hl : LH ad ls 1 [(0, iX a0)] := hl
  refine ph_iload_n (n := 0) X hl dX9_isSign_0 rfl rfl ?_
  refine lv_bipush (v := 59) X.1 X.2.1 dX9_isSign_1 (by decide) ?_
  refine lv_icmp_eq (tgt := 54) X.1 X.2.1 dX9_isSign_3 (by decide) (fun c9 => ?_) (fun c9 => ?_)
  · have hF := hF.1 c9
    exact w_X9_isSign_54 X _ _ _ _ hF hP (lh_sub hl [] rfl)
  · have hF := hF.2 c9
    refine ph_iload_n (n := 0) X hl dX9_isSign_6 rfl rfl ?_
    refine lv_bipush (v := 40) X.1 X.2.1 dX9_isSign_7 (by decide) ?_
    refine lv_icmp_eq (tgt := 54) X.1 X.2.1 dX9_isSign_9 (by decide) (fun c8 => ?_) (fun c8 => ?_)
    · have hF := hF.1 c8
      exact w_X9_isSign_54 X _ _ _ _ hF hP (lh_sub hl [] rfl)
    · have hF := hF.2 c8
      refine ph_iload_n (n := 0) X hl dX9_isSign_12 rfl rfl ?_
      refine lv_bipush (v := 41) X.1 X.2.1 dX9_isSign_13 (by decide) ?_
      refine lv_icmp_eq (tgt := 54) X.1 X.2.1 dX9_isSign_15 (by decide) (fun c7 => ?_) (fun c7 => ?_)
      · have hF := hF.1 c7
        exact w_X9_isSign_54 X _ _ _ _ hF hP (lh_sub hl [] rfl)
      · have hF := hF.2 c7
        refine ph_iload_n (n := 0) X hl dX9_isSign_18 rfl rfl ?_
        refine lv_bipush (v := 43) X.1 X.2.1 dX9_isSign_19 (by decide) ?_
        refine lv_icmp_eq (tgt := 54) X.1 X.2.1 dX9_isSign_21 (by decide) (fun c6 => ?_) (fun c6 => ?_)
        · have hF := hF.1 c6
          exact w_X9_isSign_54 X _ _ _ _ hF hP (lh_sub hl [] rfl)
        · have hF := hF.2 c6
          refine ph_iload_n (n := 0) X hl dX9_isSign_24 rfl rfl ?_
          refine lv_bipush (v := 45) X.1 X.2.1 dX9_isSign_25 (by decide) ?_
          refine lv_icmp_eq (tgt := 54) X.1 X.2.1 dX9_isSign_27 (by decide) (fun c5 => ?_) (fun c5 => ?_)
          · have hF := hF.1 c5
            exact w_X9_isSign_54 X _ _ _ _ hF hP (lh_sub hl [] rfl)
          · have hF := hF.2 c5
            refine ph_iload_n (n := 0) X hl dX9_isSign_30 rfl rfl ?_
            refine lv_bipush (v := 42) X.1 X.2.1 dX9_isSign_31 (by decide) ?_
            refine lv_icmp_eq (tgt := 54) X.1 X.2.1 dX9_isSign_33 (by decide) (fun c4 => ?_) (fun c4 => ?_)
            · have hF := hF.1 c4
              exact w_X9_isSign_54 X _ _ _ _ hF hP (lh_sub hl [] rfl)
            · have hF := hF.2 c4
              refine ph_iload_n (n := 0) X hl dX9_isSign_36 rfl rfl ?_
              refine lv_bipush (v := 47) X.1 X.2.1 dX9_isSign_37 (by decide) ?_
              refine lv_icmp_eq (tgt := 54) X.1 X.2.1 dX9_isSign_39 (by decide) (fun c3 => ?_) (fun c3 => ?_)
              · have hF := hF.1 c3
                exact w_X9_isSign_54 X _ _ _ _ hF hP (lh_sub hl [] rfl)
              · have hF := hF.2 c3
                refine ph_iload_n (n := 0) X hl dX9_isSign_42 rfl rfl ?_
                refine lv_bipush (v := 60) X.1 X.2.1 dX9_isSign_43 (by decide) ?_
                refine lv_icmp_eq (tgt := 54) X.1 X.2.1 dX9_isSign_45 (by decide) (fun c2 => ?_) (fun c2 => ?_)
                · have hF := hF.1 c2
                  exact w_X9_isSign_54 X _ _ _ _ hF hP (lh_sub hl [] rfl)
                · have hF := hF.2 c2
                  refine ph_iload_n (n := 0) X hl dX9_isSign_48 rfl rfl ?_
                  refine lv_bipush (v := 61) X.1 X.2.1 dX9_isSign_49 (by decide) ?_
                  refine lv_icmp_ne (tgt := 58) X.1 X.2.1 dX9_isSign_51 (by decide) (fun c1 => ?_) (fun c1 => ?_)
                  · have hF := hF.1 c1
                    refine lv_iconst (v := 0) X.1 X.2.1 dX9_isSign_58 (by decide) ?_
                    exact cg_zret X hP isB_0 hF dX9_isSign_59
                  · have hF := hF.2 c1
                    exact w_X9_isSign_54 X _ _ _ _ hF hP (lh_sub hl [] rfl)
def P_X9_is_20 (g : GT) (Q : Int32 → S → Prop) (x0 : Nat) (x1 : Nat) (ι : S) : Prop := (gK g x0 = 8 ∧ (isStrP g (gR g x0 7) ∧ (P_J9_equals g (gR g x0 7) x1 ι (fun r2 ι3 => ((r2 = 0 → (Q 0 ι3)) ∧ (¬ r2 = 0 → (Q 1 ι3)))))))
def P_X9_is (g : GT) (a0 : Nat) (a1 : Nat) (ι : S) (Q : Int32 → S → Prop) : Prop := (gK g a0 = 8 ∧ ((100 ≤ (gR g a0 6) ∧ (gR g a0 6) < 105) ∧ (((gR g a0 6) = 100 → (P_X9_is_20 g Q a0 a1 ι)) ∧ (¬ (gR g a0 6) = 100 → ((¬ (gR g a0 6) = 102 → (Q 0 ι)) ∧ ((gR g a0 6) = 102 → (P_X9_is_20 g Q a0 a1 ι)))))))
set_option maxHeartbeats 2000000 in
theorem w_X9_is_20 (X : CX p s m args c meth cX9_is 2 (some .boolean) RX9 D dA ad A) {Q : Int32 → S → Prop} : ∀ (x0 : Nat) (x1 : Nat) (ι : S) (H : Heap) (locs : List Loc) (ls : Array Slot), P_X9_is_20 g Q x0 x1 ι → PW D dA A s.heap ad (HS g ι) H locs → LH ad ls 2 [(0, pX x0), (1, pX x1)] → WGi p l e ({ frames := 2, cells := 0, slots := 0, locals := 44 } : Room) s m args below meth c D dA ad A g Q H locs (F0 m 20 ls []) := by
  intro x0 x1 ι H locs ls hF hP hl
  unfold P_X9_is_20 at hF
  refine ph_aload_n (n := 0) X hl dX9_is_20 rfl rfl ?_
  obtain ⟨hm1, hF⟩ := hF
  refine cg_getr 7 7 X in_X9 hP hm1 q1256 dX9_is_21 ?_
  refine ph_aload_n (n := 1) X hl dX9_is_24 rfl rfl ?_
  obtain ⟨hm4, hF⟩ := hF
  refine cg_callRi [pX x1] X hP (str_nz hP hm4) (str_recv X hP hm4) (met_J9_equals l D dA ad g _ _ hF) (cwV 1 X.2.2.2.2.1 (lw_V q1293 q1294 q1295 q109 q1296) rfl rfl rfl (by decide +kernel) ⟨Nat.le_of_ble_eq_true rfl, Nat.le_of_ble_eq_true rfl⟩) rfl hl (k8 := 0) (cs0 (k := 0)) (by decide) ⟨Nat.le_refl _, Nat.le_refl _⟩ dX9_is_25 rfl (fun r2 ι3 H locs hF hP => ?_)
  refine lv_if_eq (tgt := 35) X.1 X.2.1 dX9_is_28 (by decide) (fun c5 => ?_) (fun c5 => ?_)
  · have hF := hF.1 c5
    refine lv_iconst (v := 0) X.1 X.2.1 dX9_is_35 (by decide) ?_
    exact cg_zret X hP isB_0 hF dX9_is_36
  · have hF := hF.2 c5
    refine lv_iconst (v := 1) X.1 X.2.1 dX9_is_31 (by decide) ?_
    refine lv_goto (tgt := 36) X.1 X.2.1 dX9_is_32 (by decide) ?_
    exact cg_zret X hP isB_1 hF dX9_is_36
set_option maxHeartbeats 2000000 in
theorem met_X9_is (l : Launch) (D : va_G) (dA : Nat → ClassId) (ad : Nat → Nat) (g : GT) (ι : S) (sz : Nat) {a0 : Nat} {a1 : Nat} {Q : Int32 → S → Prop} (hF : P_X9_is g a0 a1 ι Q) : CGi l yX9_is cX9_is 2 .boolean ({ frames := 2, cells := 0, slots := 0, locals := 44 } : Room) D dA ad g ι sz [pX a0, pX a1] Q := by
  unfold P_X9_is at hF
  refine ph_enter [pX a0, pX a1] (Qc := fun A => va_Qi (GQi g Q) (CB D dA ad A) A) (by decide +kernel) (Nat.le_of_ble_eq_true rfl) ?_
  intro p e s m args below meth c A ls X hP hl hnm
  have hl : LH ad ls 2 [(0, pX a0), (1, pX a1)] := hl
  refine ph_aload_n (n := 0) X hl dX9_is_0 rfl rfl ?_
  obtain ⟨hm6, hF⟩ := hF
  refine cg_getr 7 6 X in_X9 hP hm6 q1255 dX9_is_1 ?_
  refine cg_getsS (k := 0) X hP (by decide) rfl q1221 dX9_is_4 ?_
  obtain ⟨hm7, hF⟩ := hF
  refine cg_acmp_eq (tgt := 20) X (by have := hm7; omega) (by have := (show 100 ≤ 100 ∧ 100 < 105 by decide); omega) (sort_inj X hm7 (show 100 ≤ 100 ∧ 100 < 105 by decide)) dX9_is_7 (by decide) (fun c8 => ?_) (fun c8 => ?_)
  · have hF := hF.1 c8
    exact w_X9_is_20 X _ _ _ _ _ _ hF hP hl
  · have hF := hF.2 c8
    refine ph_aload_n (n := 0) X hl dX9_is_10 rfl rfl ?_
    refine cg_getr 7 6 X in_X9 hP hm6 q1255 dX9_is_11 ?_
    refine cg_getsS (k := 2) X hP (by decide) rfl q1231 dX9_is_14 ?_
    refine cg_acmp_ne (tgt := 35) X (by have := hm7; omega) (by have := (show 100 ≤ 102 ∧ 102 < 105 by decide); omega) (sort_inj X hm7 (show 100 ≤ 102 ∧ 102 < 105 by decide)) dX9_is_17 (by decide) (fun c9 => ?_) (fun c9 => ?_)
    · have hF := hF.1 c9
      refine lv_iconst (v := 0) X.1 X.2.1 dX9_is_35 (by decide) ?_
      exact cg_zret X hP isB_0 hF dX9_is_36
    · have hF := hF.2 c9
      exact w_X9_is_20 X _ _ _ _ _ _ hF hP hl
end CGA
