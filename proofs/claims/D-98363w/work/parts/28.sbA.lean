set_option maxRecDepth 100000
section CGA
variable {p : Program} {l : Launch} {e : Env} {s : State} {m : MethodId} {args : Array Value} {below : List Frame} {meth : Method} {c : Code} {D : va_G} {dA : Nat → ClassId} {ad : Nat → Nat} {A : Nat → Prop} {g : GT}
def P_J15_canEncode (g : GT) (a0 : Int32) (ι : S) (Q : Int32 → S → Prop) : Prop := ((255 < a0 → (Q 0 ι)) ∧ (¬ 255 < a0 → (Q 1 ι)))
set_option maxHeartbeats 2000000 in
theorem met_J15_canEncode (l : Launch) (D : va_G) (dA : Nat → ClassId) (ad : Nat → Nat) (g : GT) (ι : S) (sz : Nat) {a0 : Int32} {Q : Int32 → S → Prop} (hF : P_J15_canEncode g a0 ι Q) : CGi l yJ15_canEncode cJ15_canEncode 1 .boolean ({ frames := 0, cells := 0, slots := 0, locals := 0 } : Room) D dA ad g ι sz [iX a0] Q := by
  unfold P_J15_canEncode at hF
  refine ph_enter [iX a0] (Qc := fun A => va_Qi (GQi g Q) (CB D dA ad A) A) (by decide +kernel) (Nat.le_of_ble_eq_true rfl) ?_
  intro p e s m args below meth c A ls X hP hl hnm
  have hl : LH ad ls 1 [(0, iX a0)] := hl
  refine ph_iload_n (n := 0) X hl dJ15_canEncode_0 rfl rfl ?_
  refine lv_sipush (v := 255) X.1 X.2.1 dJ15_canEncode_1 (by decide) ?_
  refine lv_icmp_gt (tgt := 11) X.1 X.2.1 dJ15_canEncode_4 (by decide) (fun c1 => ?_) (fun c1 => ?_)
  · have hF := hF.1 c1
    refine lv_iconst (v := 0) X.1 X.2.1 dJ15_canEncode_11 (by decide) ?_
    exact cg_zret X hP isB_0 hF dJ15_canEncode_12
  · have hF := hF.2 c1
    refine lv_iconst (v := 1) X.1 X.2.1 dJ15_canEncode_7 (by decide) ?_
    refine lv_goto (tgt := 12) X.1 X.2.1 dJ15_canEncode_8 (by decide) ?_
    exact cg_zret X hP isB_1 hF dJ15_canEncode_12
end CGA
