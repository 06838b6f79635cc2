set_option maxRecDepth 100000
/-! PART 49: what stands at the start -/
def rkL : List Nat := [123, 139, 144, 148, 157, 165, 173, 175, 177, 179, 191, 220, 225, 235, 236, 240, 242, 256, 258, 263, 265, 270, 280, 288, 293, 298, 303, 308, 313, 9]
def stm (i : Nat) : Term := .string "SpoonRow$Reader" (rkL.getD i 0)
def prT : Cond := Jvm.Cond.and given_1 narrow_1
theorem st_eqv {args : Array Value} {s : State} {t u : Term} {v : Value} (h : (Cond.eq t u).before args s = true) (ht : t.eval args s none [] s = some v) : u.eval args s none [] s = some v := by
  cases hu : u.eval args s none [] s with
  | none => simp [Cond.before, Cond.holds, Cond.value, ht, hu] at h
  | some w =>
    simp only [Cond.before, Cond.holds, Cond.value, ht, hu] at h
    cases w <;> cases v <;> simp_all
theorem st_OFinj {o n d : String} {v w : Value} {t : Nat} {A : Nat → Prop} {U : State} {H : Heap} (h : va_OF o n d v t A U H) (h' : va_OF o n d w t A U H) : v = w := by
  obtain ⟨cf, k, i, f, cell, h1, h2, h3, h4, h5, h6⟩ := h
  obtain ⟨cf', k', i', f', cell', g1, g2, g3, g4, g5, g6⟩ := h'
  rw [h1] at g1
  cases g1
  rw [h3] at g3
  cases g3
  rw [h5] at g5
  exact Option.some.inj g5
theorem st_S {args : Array Value} {s : State} {N : Nat} {tm : Nat → Term} {len : List Nat} {byt : List (List Int32)} {A : Nat → Prop} (hN : ∀ i : Nat, i < N → len.getD i 0 < 2 ^ 31) (hex : ∀ i : Nat, i < N → (Cond.exactly (tm i) "java/lang/String").before args s = true) (hco : ∀ i : Nat, i < N → (Cond.eq (.field (tm i) "java/lang/String" "coder" "B") (.int 0)).before args s = true)
    (har : ∀ i : Nat, i < N → (Cond.arrayOf (.field (tm i) "java/lang/String" "value" "[B") .byte).before args s = true) (hle : ∀ i : Nat, i < N → (Cond.eq (.length (.field (tm i) "java/lang/String" "value" "[B")) (.int (Int32.ofNat (len.getD i 0)))).before args s = true)
    (hel : ∀ i : Nat, i < N → ∀ j : Nat, j < len.getD i 0 → (Cond.eq (.elem (.field (tm i) "java/lang/String" "value" "[B") (.int (Int32.ofNat j))) (.int ((byt.getD i []).getD j 0))).before args s = true)
    (hne : ∀ i j : Nat, i < N → j < N → i ≠ j → len.getD i 0 = len.getD j 0 → ∃ k, k < len.getD i 0 ∧ (byt.getD i []).getD k 0 ≠ (byt.getD j []).getD k 0) (hA : ∀ a : Nat, a < s.heap.size → ¬ A a) :
    ∃ adK adV : Nat → Nat, vk_S N len byt adK adV A s s.heap ∧ ∀ i : Nat, i < N → (tm i).eval args s none [] s = some (.ref (adK i)) := by
  have h0 : ∀ i : Nat, ∃ q : Nat × Nat, i < N → (tm i).eval args s none [] s = some (.ref q.1) ∧ va_O "java/lang/String" q.1 A s s.heap ∧ va_OF "java/lang/String" "coder" "B" (.int 0) q.1 A s s.heap ∧ va_OF "java/lang/String" "value" "[B" (.ref q.2) q.1 A s s.heap ∧ va_T .byte q.2 (len.getD i 0) (fun j => .int ((byt.getD i []).getD j 0)) A s s.heap := by
    intro i
    by_cases hi : i < N
    · obtain ⟨a, c, cA, kA, q1, q2, q3, q4, q5, q6, -⟩ := Cond.exactly_spec (args := args) (first := s) (o := none) (s := s) (idx := []) (t := tm i) (cls := "java/lang/String") (hex i hi)
      obtain ⟨t, ht, hT⟩ := va_Tof (f := fun j => .int ((byt.getD i []).getD j 0)) (A := A) (hN i hi) (har i hi) (va_eqt (hle i hi)) (fun j hj => va_eqt (hel i hi j hj)) hA
      exact ⟨(a, t), fun _ => ⟨q1, ⟨cA, q3, q5, by rw [q6]; exact q2, hA a (Array.getElem?_eq_some_iff.mp q3).1⟩, vk_OFof q1 (va_eqt (hco i hi)) hA, vk_OFof q1 ht hA, hT⟩⟩
    · exact ⟨(0, 0), fun h => absurd h hi⟩
  obtain ⟨ad, had⟩ := Classical.axiomOfChoice h0
  refine ⟨fun i => (ad i).1, fun i => (ad i).2, ⟨fun i hi => (had i hi).2, fun i j hi hj e => ?_⟩, fun i hi => (had i hi).1⟩
  by_cases hij : i = j
  · exact hij
  · exfalso
    have e : (ad i).1 = (ad j).1 := e
    have vi := (had i hi).2.2.2.1
    have vj := (had j hj).2.2.2.1
    rw [← e] at vj
    have e2 : (ad i).2 = (ad j).2 := Value.ref.inj (st_OFinj vi vj)
    obtain ⟨c1, a1, a2, a3, a4, a5, a6, a7⟩ := (had i hi).2.2.2.2
    obtain ⟨c2, b1, b2, b3, b4, b5, b6, b7⟩ := (had j hj).2.2.2.2
    rw [← e2, a1] at b1
    cases b1
    have e3 : Int32.ofNat (len.getD i 0) = Int32.ofNat (len.getD j 0) := a5.symm.trans b5
    have e4 : len.getD i 0 = len.getD j 0 := by
      have x1 := congrArg Int32.toNatClampNeg e3
      rwa [Int32.toNatClampNeg_ofNat_of_lt (hN i hi), Int32.toNatClampNeg_ofNat_of_lt (hN j hj)] at x1
    obtain ⟨k, hk, hkn⟩ := hne i j hi hj hij e4
    have x1 := a6 k hk
    have x2 := b6 k (by omega)
    rw [x1] at x2
    exact hkn (Value.int.inj (Option.some.inj x2))
def pn1 : List Cond := [(Cond.isRef (Term.static "java/lang/Throwable" "UNASSIGNED_STACK" "[Ljava/lang/StackTraceElement;")), (Cond.isRef (Term.static "java/lang/Throwable" "SUPPRESSED_SENTINEL" "Ljava/util/List;")), (Cond.eq (Term.static "java/lang/String" "COMPACT_STRINGS" "Z") (Term.int (1))), (Cond.isRef (Term.static "jdk/internal/util/Preconditions" "SIOOBE_FORMATTER" "Ljava/util/function/BiFunction;")), (Cond.isRef (Term.static "SpoonRow$Value" "$VALUES" "[LSpoonRow$Value;")), (Cond.exactly (Term.static "SpoonRow$Value" "$VALUES" "[LSpoonRow$Value;") "[LSpoonRow$Value;"), (Cond.arrayOf (Term.static "SpoonRow$Value" "$VALUES" "[LSpoonRow$Value;") (Jvm.ClassFile.FieldType.object "SpoonRow$Value")), (Cond.eq (Term.length (Term.static "SpoonRow$Value" "$VALUES" "[LSpoonRow$Value;")) (Term.int (7))), (Cond.all (Term.static "SpoonRow$Value" "$VALUES" "[LSpoonRow$Value;") (Cond.le (Term.index (0)) (Term.int (6)))), (Cond.eq (Term.elem (Term.static "SpoonRow$Value" "$VALUES" "[LSpoonRow$Value;") (Term.int (0))) (Term.static "SpoonRow$Value" "LIGHT" "LSpoonRow$Value;")), (Cond.eq (Term.elem (Term.static "SpoonRow$Value" "$VALUES" "[LSpoonRow$Value;") (Term.int (1))) (Term.static "SpoonRow$Value" "OFF" "LSpoonRow$Value;")), (Cond.eq (Term.elem (Term.static "SpoonRow$Value" "$VALUES" "[LSpoonRow$Value;") (Term.int (2))) (Term.static "SpoonRow$Value" "TURNS" "LSpoonRow$Value;")), (Cond.eq (Term.elem (Term.static "SpoonRow$Value" "$VALUES" "[LSpoonRow$Value;") (Term.int (3))) (Term.static "SpoonRow$Value" "HOUR" "LSpoonRow$Value;")), (Cond.eq (Term.elem (Term.static "SpoonRow$Value" "$VALUES" "[LSpoonRow$Value;") (Term.int (4))) (Term.static "SpoonRow$Value" "SNORE" "LSpoonRow$Value;")), (Cond.eq (Term.elem (Term.static "SpoonRow$Value" "$VALUES" "[LSpoonRow$Value;") (Term.int (5))) (Term.static "SpoonRow$Value" "EDGE" "LSpoonRow$Value;")), (Cond.eq (Term.elem (Term.static "SpoonRow$Value" "$VALUES" "[LSpoonRow$Value;") (Term.int (6))) (Term.static "SpoonRow$Value" "WOKEN" "LSpoonRow$Value;")), (Cond.exactly (Term.static "SpoonRow$Value" "LIGHT" "LSpoonRow$Value;") "SpoonRow$Value"), (Cond.eq (Term.field (Term.static "SpoonRow$Value" "LIGHT" "LSpoonRow$Value;") "java/lang/Enum" "ordinal" "I") (Term.int (0))), (Cond.exactly (Term.static "SpoonRow$Value" "OFF" "LSpoonRow$Value;") "SpoonRow$Value"), (Cond.eq (Term.field (Term.static "SpoonRow$Value" "OFF" "LSpoonRow$Value;") "java/lang/Enum" "ordinal" "I") (Term.int (1))), (Cond.not (Cond.eq (Term.static "SpoonRow$Value" "LIGHT" "LSpoonRow$Value;") (Term.static "SpoonRow$Value" "OFF" "LSpoonRow$Value;"))), (Cond.exactly (Term.static "SpoonRow$Value" "TURNS" "LSpoonRow$Value;") "SpoonRow$Value"), (Cond.eq (Term.field (Term.static "SpoonRow$Value" "TURNS" "LSpoonRow$Value;") "java/lang/Enum" "ordinal" "I") (Term.int (2))), (Cond.not (Cond.eq (Term.static "SpoonRow$Value" "LIGHT" "LSpoonRow$Value;") (Term.static "SpoonRow$Value" "TURNS" "LSpoonRow$Value;"))), (Cond.not (Cond.eq (Term.static "SpoonRow$Value" "OFF" "LSpoonRow$Value;") (Term.static "SpoonRow$Value" "TURNS" "LSpoonRow$Value;"))), (Cond.exactly (Term.static "SpoonRow$Value" "HOUR" "LSpoonRow$Value;") "SpoonRow$Value"), (Cond.eq (Term.field (Term.static "SpoonRow$Value" "HOUR" "LSpoonRow$Value;") "java/lang/Enum" "ordinal" "I") (Term.int (3))), (Cond.not (Cond.eq (Term.static "SpoonRow$Value" "LIGHT" "LSpoonRow$Value;") (Term.static "SpoonRow$Value" "HOUR" "LSpoonRow$Value;"))), (Cond.not (Cond.eq (Term.static "SpoonRow$Value" "OFF" "LSpoonRow$Value;") (Term.static "SpoonRow$Value" "HOUR" "LSpoonRow$Value;"))), (Cond.not (Cond.eq (Term.static "SpoonRow$Value" "TURNS" "LSpoonRow$Value;") (Term.static "SpoonRow$Value" "HOUR" "LSpoonRow$Value;"))), (Cond.exactly (Term.static "SpoonRow$Value" "SNORE" "LSpoonRow$Value;") "SpoonRow$Value"), (Cond.eq (Term.field (Term.static "SpoonRow$Value" "SNORE" "LSpoonRow$Value;") "java/lang/Enum" "ordinal" "I") (Term.int (4))), (Cond.not (Cond.eq (Term.static "SpoonRow$Value" "LIGHT" "LSpoonRow$Value;") (Term.static "SpoonRow$Value" "SNORE" "LSpoonRow$Value;"))), (Cond.not (Cond.eq (Term.static "SpoonRow$Value" "OFF" "LSpoonRow$Value;") (Term.static "SpoonRow$Value" "SNORE" "LSpoonRow$Value;"))), (Cond.not (Cond.eq (Term.static "SpoonRow$Value" "TURNS" "LSpoonRow$Value;") (Term.static "SpoonRow$Value" "SNORE" "LSpoonRow$Value;"))), (Cond.not (Cond.eq (Term.static "SpoonRow$Value" "HOUR" "LSpoonRow$Value;") (Term.static "SpoonRow$Value" "SNORE" "LSpoonRow$Value;"))), (Cond.exactly (Term.static "SpoonRow$Value" "EDGE" "LSpoonRow$Value;") "SpoonRow$Value"), (Cond.eq (Term.field (Term.static "SpoonRow$Value" "EDGE" "LSpoonRow$Value;") "java/lang/Enum" "ordinal" "I") (Term.int (5))), (Cond.not (Cond.eq (Term.static "SpoonRow$Value" "LIGHT" "LSpoonRow$Value;") (Term.static "SpoonRow$Value" "EDGE" "LSpoonRow$Value;"))), (Cond.not (Cond.eq (Term.static "SpoonRow$Value" "OFF" "LSpoonRow$Value;") (Term.static "SpoonRow$Value" "EDGE" "LSpoonRow$Value;"))), (Cond.not (Cond.eq (Term.static "SpoonRow$Value" "TURNS" "LSpoonRow$Value;") (Term.static "SpoonRow$Value" "EDGE" "LSpoonRow$Value;"))), (Cond.not (Cond.eq (Term.static "SpoonRow$Value" "HOUR" "LSpoonRow$Value;") (Term.static "SpoonRow$Value" "EDGE" "LSpoonRow$Value;"))), (Cond.not (Cond.eq (Term.static "SpoonRow$Value" "SNORE" "LSpoonRow$Value;") (Term.static "SpoonRow$Value" "EDGE" "LSpoonRow$Value;"))), (Cond.exactly (Term.static "SpoonRow$Value" "WOKEN" "LSpoonRow$Value;") "SpoonRow$Value"), (Cond.eq (Term.field (Term.static "SpoonRow$Value" "WOKEN" "LSpoonRow$Value;") "java/lang/Enum" "ordinal" "I") (Term.int (6))), (Cond.not (Cond.eq (Term.static "SpoonRow$Value" "LIGHT" "LSpoonRow$Value;") (Term.static "SpoonRow$Value" "WOKEN" "LSpoonRow$Value;"))), (Cond.not (Cond.eq (Term.static "SpoonRow$Value" "OFF" "LSpoonRow$Value;") (Term.static "SpoonRow$Value" "WOKEN" "LSpoonRow$Value;"))), (Cond.not (Cond.eq (Term.static "SpoonRow$Value" "TURNS" "LSpoonRow$Value;") (Term.static "SpoonRow$Value" "WOKEN" "LSpoonRow$Value;"))), (Cond.not (Cond.eq (Term.static "SpoonRow$Value" "HOUR" "LSpoonRow$Value;") (Term.static "SpoonRow$Value" "WOKEN" "LSpoonRow$Value;"))), (Cond.not (Cond.eq (Term.static "SpoonRow$Value" "SNORE" "LSpoonRow$Value;") (Term.static "SpoonRow$Value" "WOKEN" "LSpoonRow$Value;"))), (Cond.not (Cond.eq (Term.static "SpoonRow$Value" "EDGE" "LSpoonRow$Value;") (Term.static "SpoonRow$Value" "WOKEN" "LSpoonRow$Value;"))), (Cond.exactly (Term.static "SpoonRow$Sort" "END" "LSpoonRow$Sort;") "SpoonRow$Sort"), (Cond.eq (Term.field (Term.static "SpoonRow$Sort" "END" "LSpoonRow$Sort;") "java/lang/Enum" "ordinal" "I") (Term.int (4))), (Cond.not (Cond.eq (Term.static "SpoonRow$Value" "LIGHT" "LSpoonRow$Value;") (Term.static "SpoonRow$Sort" "END" "LSpoonRow$Sort;"))), (Cond.not (Cond.eq (Term.static "SpoonRow$Value" "OFF" "LSpoonRow$Value;") (Term.static "SpoonRow$Sort" "END" "LSpoonRow$Sort;"))), (Cond.not (Cond.eq (Term.static "SpoonRow$Value" "TURNS" "LSpoonRow$Value;") (Term.static "SpoonRow$Sort" "END" "LSpoonRow$Sort;"))), (Cond.not (Cond.eq (Term.static "SpoonRow$Value" "HOUR" "LSpoonRow$Value;") (Term.static "SpoonRow$Sort" "END" "LSpoonRow$Sort;"))), (Cond.not (Cond.eq (Term.static "SpoonRow$Value" "SNORE" "LSpoonRow$Value;") (Term.static "SpoonRow$Sort" "END" "LSpoonRow$Sort;"))), (Cond.not (Cond.eq (Term.static "SpoonRow$Value" "EDGE" "LSpoonRow$Value;") (Term.static "SpoonRow$Sort" "END" "LSpoonRow$Sort;"))), (Cond.not (Cond.eq (Term.static "SpoonRow$Value" "WOKEN" "LSpoonRow$Value;") (Term.static "SpoonRow$Sort" "END" "LSpoonRow$Sort;"))), (Cond.exactly (Term.static "SpoonRow$Sort" "WORD" "LSpoonRow$Sort;") "SpoonRow$Sort"), (Cond.eq (Term.field (Term.static "SpoonRow$Sort" "WORD" "LSpoonRow$Sort;") "java/lang/Enum" "ordinal" "I") (Term.int (0))), (Cond.not (Cond.eq (Term.static "SpoonRow$Value" "LIGHT" "LSpoonRow$Value;") (Term.static "SpoonRow$Sort" "WORD" "LSpoonRow$Sort;"))), (Cond.not (Cond.eq (Term.static "SpoonRow$Value" "OFF" "LSpoonRow$Value;") (Term.static "SpoonRow$Sort" "WORD" "LSpoonRow$Sort;"))), (Cond.not (Cond.eq (Term.static "SpoonRow$Value" "TURNS" "LSpoonRow$Value;") (Term.static "SpoonRow$Sort" "WORD" "LSpoonRow$Sort;"))), (Cond.not (Cond.eq (Term.static "SpoonRow$Value" "HOUR" "LSpoonRow$Value;") (Term.static "SpoonRow$Sort" "WORD" "LSpoonRow$Sort;"))), (Cond.not (Cond.eq (Term.static "SpoonRow$Value" "SNORE" "LSpoonRow$Value;") (Term.static "SpoonRow$Sort" "WORD" "LSpoonRow$Sort;"))), (Cond.not (Cond.eq (Term.static "SpoonRow$Value" "EDGE" "LSpoonRow$Value;") (Term.static "SpoonRow$Sort" "WORD" "LSpoonRow$Sort;"))), (Cond.not (Cond.eq (Term.static "SpoonRow$Value" "WOKEN" "LSpoonRow$Value;") (Term.static "SpoonRow$Sort" "WORD" "LSpoonRow$Sort;"))), (Cond.not (Cond.eq (Term.static "SpoonRow$Sort" "END" "LSpoonRow$Sort;") (Term.static "SpoonRow$Sort" "WORD" "LSpoonRow$Sort;"))), (Cond.exactly (Term.static "SpoonRow$Sort" "NUMBER" "LSpoonRow$Sort;") "SpoonRow$Sort"), (Cond.eq (Term.field (Term.static "SpoonRow$Sort" "NUMBER" "LSpoonRow$Sort;") "java/lang/Enum" "ordinal" "I") (Term.int (1))), (Cond.not (Cond.eq (Term.static "SpoonRow$Value" "LIGHT" "LSpoonRow$Value;") (Term.static "SpoonRow$Sort" "NUMBER" "LSpoonRow$Sort;"))), (Cond.not (Cond.eq (Term.static "SpoonRow$Value" "OFF" "LSpoonRow$Value;") (Term.static "SpoonRow$Sort" "NUMBER" "LSpoonRow$Sort;"))), (Cond.not (Cond.eq (Term.static "SpoonRow$Value" "TURNS" "LSpoonRow$Value;") (Term.static "SpoonRow$Sort" "NUMBER" "LSpoonRow$Sort;"))), (Cond.not (Cond.eq (Term.static "SpoonRow$Value" "HOUR" "LSpoonRow$Value;") (Term.static "SpoonRow$Sort" "NUMBER" "LSpoonRow$Sort;"))), (Cond.not (Cond.eq (Term.static "SpoonRow$Value" "SNORE" "LSpoonRow$Value;") (Term.static "SpoonRow$Sort" "NUMBER" "LSpoonRow$Sort;"))), (Cond.not (Cond.eq (Term.static "SpoonRow$Value" "EDGE" "LSpoonRow$Value;") (Term.static "SpoonRow$Sort" "NUMBER" "LSpoonRow$Sort;"))), (Cond.not (Cond.eq (Term.static "SpoonRow$Value" "WOKEN" "LSpoonRow$Value;") (Term.static "SpoonRow$Sort" "NUMBER" "LSpoonRow$Sort;"))), (Cond.not (Cond.eq (Term.static "SpoonRow$Sort" "END" "LSpoonRow$Sort;") (Term.static "SpoonRow$Sort" "NUMBER" "LSpoonRow$Sort;"))), (Cond.not (Cond.eq (Term.static "SpoonRow$Sort" "WORD" "LSpoonRow$Sort;") (Term.static "SpoonRow$Sort" "NUMBER" "LSpoonRow$Sort;"))), (Cond.exactly (Term.static "SpoonRow$Sort" "SIGN" "LSpoonRow$Sort;") "SpoonRow$Sort"), (Cond.eq (Term.field (Term.static "SpoonRow$Sort" "SIGN" "LSpoonRow$Sort;") "java/lang/Enum" "ordinal" "I") (Term.int (2))), (Cond.not (Cond.eq (Term.static "SpoonRow$Value" "LIGHT" "LSpoonRow$Value;") (Term.static "SpoonRow$Sort" "SIGN" "LSpoonRow$Sort;"))), (Cond.not (Cond.eq (Term.static "SpoonRow$Value" "OFF" "LSpoonRow$Value;") (Term.static "SpoonRow$Sort" "SIGN" "LSpoonRow$Sort;"))), (Cond.not (Cond.eq (Term.static "SpoonRow$Value" "TURNS" "LSpoonRow$Value;") (Term.static "SpoonRow$Sort" "SIGN" "LSpoonRow$Sort;"))), (Cond.not (Cond.eq (Term.static "SpoonRow$Value" "HOUR" "LSpoonRow$Value;") (Term.static "SpoonRow$Sort" "SIGN" "LSpoonRow$Sort;"))), (Cond.not (Cond.eq (Term.static "SpoonRow$Value" "SNORE" "LSpoonRow$Value;") (Term.static "SpoonRow$Sort" "SIGN" "LSpoonRow$Sort;"))), (Cond.not (Cond.eq (Term.static "SpoonRow$Value" "EDGE" "LSpoonRow$Value;") (Term.static "SpoonRow$Sort" "SIGN" "LSpoonRow$Sort;"))), (Cond.not (Cond.eq (Term.static "SpoonRow$Value" "WOKEN" "LSpoonRow$Value;") (Term.static "SpoonRow$Sort" "SIGN" "LSpoonRow$Sort;"))), (Cond.not (Cond.eq (Term.static "SpoonRow$Sort" "END" "LSpoonRow$Sort;") (Term.static "SpoonRow$Sort" "SIGN" "LSpoonRow$Sort;"))), (Cond.not (Cond.eq (Term.static "SpoonRow$Sort" "WORD" "LSpoonRow$Sort;") (Term.static "SpoonRow$Sort" "SIGN" "LSpoonRow$Sort;"))), (Cond.not (Cond.eq (Term.static "SpoonRow$Sort" "NUMBER" "LSpoonRow$Sort;") (Term.static "SpoonRow$Sort" "SIGN" "LSpoonRow$Sort;"))), (Cond.exactly (Term.static "SpoonRow$Sort" "BAD" "LSpoonRow$Sort;") "SpoonRow$Sort"), (Cond.eq (Term.field (Term.static "SpoonRow$Sort" "BAD" "LSpoonRow$Sort;") "java/lang/Enum" "ordinal" "I") (Term.int (3))), (Cond.not (Cond.eq (Term.static "SpoonRow$Value" "LIGHT" "LSpoonRow$Value;") (Term.static "SpoonRow$Sort" "BAD" "LSpoonRow$Sort;"))), (Cond.not (Cond.eq (Term.static "SpoonRow$Value" "OFF" "LSpoonRow$Value;") (Term.static "SpoonRow$Sort" "BAD" "LSpoonRow$Sort;"))), (Cond.not (Cond.eq (Term.static "SpoonRow$Value" "TURNS" "LSpoonRow$Value;") (Term.static "SpoonRow$Sort" "BAD" "LSpoonRow$Sort;"))), (Cond.not (Cond.eq (Term.static "SpoonRow$Value" "HOUR" "LSpoonRow$Value;") (Term.static "SpoonRow$Sort" "BAD" "LSpoonRow$Sort;"))), (Cond.not (Cond.eq (Term.static "SpoonRow$Value" "SNORE" "LSpoonRow$Value;") (Term.static "SpoonRow$Sort" "BAD" "LSpoonRow$Sort;"))), (Cond.not (Cond.eq (Term.static "SpoonRow$Value" "EDGE" "LSpoonRow$Value;") (Term.static "SpoonRow$Sort" "BAD" "LSpoonRow$Sort;"))), (Cond.not (Cond.eq (Term.static "SpoonRow$Value" "WOKEN" "LSpoonRow$Value;") (Term.static "SpoonRow$Sort" "BAD" "LSpoonRow$Sort;"))), (Cond.not (Cond.eq (Term.static "SpoonRow$Sort" "END" "LSpoonRow$Sort;") (Term.static "SpoonRow$Sort" "BAD" "LSpoonRow$Sort;"))), (Cond.not (Cond.eq (Term.static "SpoonRow$Sort" "WORD" "LSpoonRow$Sort;") (Term.static "SpoonRow$Sort" "BAD" "LSpoonRow$Sort;"))), (Cond.not (Cond.eq (Term.static "SpoonRow$Sort" "NUMBER" "LSpoonRow$Sort;") (Term.static "SpoonRow$Sort" "BAD" "LSpoonRow$Sort;"))), (Cond.not (Cond.eq (Term.static "SpoonRow$Sort" "SIGN" "LSpoonRow$Sort;") (Term.static "SpoonRow$Sort" "BAD" "LSpoonRow$Sort;"))), (Cond.not (Cond.castable "java/lang/IllegalArgumentException" "java/util/NoSuchElementException")), (Cond.isRef (Term.mirror "[Ljava/lang/Object;"))]
def ordL : List Nat := [29, 0, 1, 2, 3, 11, 14, 21, 22, 23, 24, 25, 26, 27, 28, 19, 20, 17, 18, 15, 16, 13, 12, 4, 5, 6, 7, 8, 9, 10]
def sblk (i : Nat) : List Cond := [Cond.exactly (stm i) "java/lang/String", Cond.eq (.field (stm i) "java/lang/String" "coder" "B") (.int 0), Cond.arrayOf (.field (stm i) "java/lang/String" "value" "[B") .byte, Cond.eq (.length (.field (stm i) "java/lang/String" "value" "[B")) (.int (Int32.ofNat (strLen.getD i 0)))] ++ (List.range (strLen.getD i 0)).map (fun j => Cond.eq (.elem (.field (stm i) "java/lang/String" "value" "[B") (.int (Int32.ofNat j))) (.int ((strByt.getD i []).getD j 0)))
def seqs : List Cond := (SR.take 20).map (fun e => Cond.eq (stm e.2.2.2) (.string e.1 e.2.1))
def pnA : List Cond := pn1 ++ (ordL.flatMap sblk ++ seqs)
theorem pn_sub : pnA.isSublist (flatC prT) = true := by decide +kernel
theorem pn_mem {w : Cond} (h : w ∈ pnA) : w ∈ flatC prT := (List.isSublist_iff_sublist.mp pn_sub).subset h
theorem pn_blk {i : Nat} (hi : i < 30) {w : Cond} (h : w ∈ sblk i) : w ∈ flatC prT := by
  refine pn_mem (List.mem_append_right _ (List.mem_append_left _ (List.mem_flatMap.mpr ⟨i, ?_, h⟩)))
  have : ∀ i, i < 30 → i ∈ ordL := by decide
  exact this i hi
theorem pn_one {w : Cond} (h : w ∈ pn1) : w ∈ flatC prT := pn_mem (List.mem_append_left _ h)
theorem gd_ext {l m : List Int32} (hl : l.length = m.length) (h : ∀ k, k < l.length → l.getD k 0 = m.getD k 0) : l = m := List.ext_getElem hl (fun k a b => by
  have := h k a
  simpa [List.getD_eq_getElem?_getD, a, b] using this)
theorem st_str {args : Array Value} {s : State} {A : Nat → Prop} (hp : ∀ w ∈ flatC prT, w.before args s = true) (hA : ∀ a : Nat, a < s.heap.size → ¬ A a) :
    ∃ adK adV : Nat → Nat, vk_S 30 strLen strByt adK adV A s s.heap ∧ ∀ e ∈ SR, (Term.string e.1 e.2.1).eval args s none [] s = some (.ref (adK e.2.2.2)) := by
  have b3 : ∀ e ∈ SR, e.2.2.2 < 30 ∧ ((Term.string e.1 e.2.1) = stm e.2.2.2 ∨ e ∈ SR.take 20) := by decide +kernel
  have b4 : ∀ i, i < 30 → ∀ j, j < 30 → i ≠ j → strLen.getD i 0 = strLen.getD j 0 → (strByt.getD i []) ≠ (strByt.getD j []) := by decide +kernel
  have b5 : ∀ i, i < 30 → (strByt.getD i []).length = strLen.getD i 0 := by decide +kernel
  have b6 : ∀ i j : Nat, i < 30 → j < 30 → i ≠ j → strLen.getD i 0 = strLen.getD j 0 → ∃ k, k < strLen.getD i 0 ∧ (strByt.getD i []).getD k 0 ≠ (strByt.getD j []).getD k 0 := by
    intro i j hi hj hij he
    have hn := b4 i hi j hj hij he
    by_cases hk : ∃ k, k < strLen.getD i 0 ∧ (strByt.getD i []).getD k 0 ≠ (strByt.getD j []).getD k 0
    · exact hk
    · exfalso
      apply hn
      refine gd_ext (by rw [b5 i hi, b5 j hj, he]) (fun k q1 => ?_)
      by_cases hq : (strByt.getD i []).getD k 0 = (strByt.getD j []).getD k 0
      · exact hq
      · exact absurd ⟨k, by rw [← b5 i hi]; exact q1, hq⟩ hk
  obtain ⟨adK, adV, h1, h2⟩ := st_S (args := args) (s := s) (N := 30) (tm := stm) (len := strLen) (byt := strByt) (A := A) (by decide +kernel) (fun i hi => hp _ (pn_blk hi (by simp [sblk]))) (fun i hi => hp _ (pn_blk hi (by simp [sblk]))) (fun i hi => hp _ (pn_blk hi (by simp [sblk]))) (fun i hi => hp _ (pn_blk hi (by simp [sblk]))) (fun i hi j hj => hp _ (pn_blk hi (List.mem_append_right _ (List.mem_map.mpr ⟨j, List.mem_range.mpr hj, rfl⟩)))) b6 hA
  refine ⟨adK, adV, h1, fun e he => ?_⟩
  obtain ⟨hlt, h | h⟩ := b3 e he
  · rw [h]
    exact h2 _ hlt
  · exact st_eqv (hp _ (pn_mem (List.mem_append_right _ (List.mem_append_right _ (List.mem_map.mpr ⟨e, h, rfl⟩))))) (h2 _ hlt)
def srL : List Cond := [(Jvm.Cond.stringRef "SpoonRow$Reader" (9 : Nat) ""), (Jvm.Cond.stringRef "SpoonRow$Reader" (123 : Nat) "bed"), (Jvm.Cond.stringRef "SpoonRow$Reader" (139 : Nat) "night"), (Jvm.Cond.stringRef "SpoonRow$Reader" (144 : Nat) "awake"), (Jvm.Cond.stringRef "SpoonRow$Reader" (148 : Nat) "wakes"), (Jvm.Cond.stringRef "SpoonRow$Reader" (220 : Nat) "("), (Jvm.Cond.stringRef "SpoonRow$Reader" (236 : Nat) "not"), (Jvm.Cond.stringRef "SpoonRow$Reader" (270 : Nat) ")"), (Jvm.Cond.stringRef "SpoonRow$Reader" (280 : Nat) "light"), (Jvm.Cond.stringRef "SpoonRow$Reader" (288 : Nat) "off"), (Jvm.Cond.stringRef "SpoonRow$Reader" (293 : Nat) "turns"), (Jvm.Cond.stringRef "SpoonRow$Reader" (298 : Nat) "hour"), (Jvm.Cond.stringRef "SpoonRow$Reader" (303 : Nat) "snore"), (Jvm.Cond.stringRef "SpoonRow$Reader" (308 : Nat) "edge"), (Jvm.Cond.stringRef "SpoonRow$Reader" (313 : Nat) "woken"), (Jvm.Cond.stringRef "SpoonRow$Reader" (263 : Nat) "*"), (Jvm.Cond.stringRef "SpoonRow$Reader" (265 : Nat) "/"), (Jvm.Cond.stringRef "SpoonRow$Reader" (256 : Nat) "+"), (Jvm.Cond.stringRef "SpoonRow$Reader" (258 : Nat) "-"), (Jvm.Cond.stringRef "SpoonRow$Reader" (240 : Nat) "<"), (Jvm.Cond.stringRef "SpoonRow$Reader" (242 : Nat) "="), (Jvm.Cond.stringRef "SpoonRow$Reader" (235 : Nat) "and"), (Jvm.Cond.stringRef "SpoonRow$Reader" (225 : Nat) "or"), (Jvm.Cond.stringRef "SpoonRow$Reader" (157 : Nat) "bolster"), (Jvm.Cond.stringRef "SpoonRow$Reader" (165 : Nat) "never"), (Jvm.Cond.stringRef "SpoonRow$Reader" (173 : Nat) "sleeper"), (Jvm.Cond.stringRef "SpoonRow$Reader" (175 : Nat) "child"), (Jvm.Cond.stringRef "SpoonRow$Reader" (177 : Nat) "snorer"), (Jvm.Cond.stringRef "SpoonRow$Reader" (179 : Nat) "dog"), (Jvm.Cond.stringRef "SpoonRow$Reader" (191 : Nat) ";"), (Jvm.Cond.stringRef "SpoonRowModel" (11 : Nat) "sleeper"), (Jvm.Cond.stringRef "SpoonRowModel" (13 : Nat) "child"), (Jvm.Cond.stringRef "SpoonRowModel" (15 : Nat) "snorer"), (Jvm.Cond.stringRef "SpoonRowModel" (21 : Nat) "light"), (Jvm.Cond.stringRef "SpoonRowModel" (23 : Nat) "off"), (Jvm.Cond.stringRef "SpoonRowModel" (25 : Nat) "turns"), (Jvm.Cond.stringRef "SpoonRowModel" (27 : Nat) "hour"), (Jvm.Cond.stringRef "SpoonRowModel" (29 : Nat) "snore"), (Jvm.Cond.stringRef "SpoonRowModel" (31 : Nat) "edge"), (Jvm.Cond.stringRef "SpoonRowModel" (33 : Nat) "woken"), (Jvm.Cond.stringRef "SpoonRowModel" (279 : Nat) "bed"), (Jvm.Cond.stringRef "SpoonRowModel" (281 : Nat) "night"), (Jvm.Cond.stringRef "SpoonRowModel" (283 : Nat) "awake"), (Jvm.Cond.stringRef "SpoonRowModel" (285 : Nat) "wakes"), (Jvm.Cond.stringRef "SpoonRowModel" (287 : Nat) "dog"), (Jvm.Cond.stringRef "SpoonRowModel" (261 : Nat) "not"), (Jvm.Cond.stringRef "SpoonRowModel" (269 : Nat) "and"), (Jvm.Cond.stringRef "SpoonRowModel" (274 : Nat) "or"), (Jvm.Cond.stringRef "SpoonRowModel" (292 : Nat) "bolster"), (Jvm.Cond.stringRef "SpoonRowModel" (297 : Nat) "never")]
theorem srL_in : ∀ w ∈ srL, w ∈ lw_tbl := by
  intro w hw
  simp only [srL, List.mem_cons, List.not_mem_nil, or_false] at hw
  rcases hw with rfl | rfl | rfl | rfl | rfl | rfl | rfl | rfl | rfl | rfl | rfl | rfl | rfl | rfl | rfl | rfl | rfl | rfl | rfl | rfl | rfl | rfl | rfl | rfl | rfl | rfl | rfl | rfl | rfl | rfl | rfl | rfl | rfl | rfl | rfl | rfl | rfl | rfl | rfl | rfl | rfl | rfl | rfl | rfl | rfl | rfl | rfl | rfl | rfl | rfl
  · exact q1181
  · exact q1284
  · exact q1331
  · exact q1332
  · exact q1333
  · exact q1338
  · exact q1347
  · exact q1373
  · exact q1381
  · exact q1383
  · exact q1385
  · exact q1387
  · exact q1389
  · exact q1391
  · exact q1393
  · exact q1405
  · exact q1406
  · exact q1438
  · exact q1439
  · exact q1440
  · exact q1441
  · exact q1452
  · exact q1453
  · exact q1454
  · exact q1459
  · exact q1469
  · exact q1470
  · exact q1471
  · exact q1472
  · exact q1547
  · exact q1760
  · exact q1761
  · exact q1762
  · exact q1763
  · exact q1764
  · exact q1765
  · exact q1766
  · exact q1767
  · exact q1768
  · exact q1769
  · exact q2029
  · exact q2036
  · exact q2037
  · exact q2038
  · exact q2039
  · exact q2072
  · exact q2093
  · exact q2094
  · exact q2099
  · exact q2104
theorem st_sel {s : State} {args : Array Value} {n : Nat} (hins : (Cond.instantiable "java/lang/StringBuilder" n).before args s = true) (hpriv : (Cond.privateMethod ⟨"java/lang/AbstractStringBuilder", "ensureCapacityInternal", "(I)V"⟩).before args s = true) (hinst : (Cond.instanceMethod ⟨"java/lang/AbstractStringBuilder", "ensureCapacityInternal", "(I)V"⟩).before args s = true) (hother : (Cond.selects "java/lang/StringBuilder" ⟨"java/lang/AbstractStringBuilder", "isLatin1", "()Z"⟩ ⟨"java/lang/AbstractStringBuilder", "isLatin1", "()Z"⟩).before args s = true) : (Cond.selects "java/lang/StringBuilder" ⟨"java/lang/AbstractStringBuilder", "ensureCapacityInternal", "(I)V"⟩ ⟨"java/lang/AbstractStringBuilder", "ensureCapacityInternal", "(I)V"⟩).before #[] s = true := by
  obtain ⟨c, k0, hc, hk0, -, hniab, -, -⟩ := Cond.instantiable_spec hins
  obtain ⟨mk, methM, hnamed, hmethM, -, -⟩ := Cond.instanceMethod_spec hinst
  obtain ⟨-, -, m2, -, -, hn2, -, k, hk2, hni⟩ := Cond.selects_spec hother
  have e1 : s.vm.findClass "java/lang/AbstractStringBuilder" = some m2.cls := findClass_of_methodNamed hn2
  have e2 : s.vm.findClass "java/lang/AbstractStringBuilder" = some mk.cls := findClass_of_methodNamed hnamed
  have hcl : m2.cls = mk.cls := Option.some.inj (e1.symm.trans e2)
  rw [hcl] at hk2
  have hfound : s.methodFound? "java/lang/AbstractStringBuilder" "ensureCapacityInternal" "(I)V" = some mk := State.methodFound?_of_named hnamed (by decide)
  have hsel : selectMethod {} s.vm c mk = .method mk := selectMethod_private hmethM (Cond.privateMethod_at hpriv mk methM hnamed hmethM)
  simp [Cond.before, Cond.holds, Cond.value, hc, hfound, hnamed, hsel, hk2, hni]
theorem st_cls {args : Array Value} {s : State} (hts : ∀ w ∈ lw_tbl, w.before args s = true) : ∃ D : va_G, ∀ (c : Nat) (q : vw_C), CL[c]? = some q → u_Kn s q.1 q.2.1 q.2.2 (D.1 c) (D.2 c) := by
  have hall : ∀ q ∈ CL, ∃ x : ClassId × (Nat → Nat), u_Kn s q.1 q.2.1 q.2.2 x.1 x.2 := by
    intro q hq
    simp only [CL, List.mem_cons, List.not_mem_nil, or_false] at hq
    rcases hq with rfl | rfl | rfl | rfl | rfl | rfl | rfl | rfl | rfl | rfl | rfl | rfl | rfl | rfl | rfl | rfl | rfl | rfl | rfl | rfl
    · obtain ⟨a, b, h⟩ := u_known (C := RX8) (T := TX8) (N := 73) hts (fun w h => lw_all_tbl (in_X8 w h)) (hts _ (lw_all_tbl q1753))
      exact ⟨(a, b), h⟩
    · obtain ⟨a, b, h⟩ := u_known (C := RX1) (T := TX1) (N := 21) hts (fun w h => lw_all_tbl (in_X1 w h)) (hts _ (lw_all_tbl q141))
      exact ⟨(a, b), h⟩
    · obtain ⟨a, b, h⟩ := u_known (C := RX2) (T := TX2) (N := 10) hts (fun w h => lw_all_tbl (in_X2 w h)) (hts _ (lw_all_tbl q149))
      exact ⟨(a, b), h⟩
    · obtain ⟨a, b, h⟩ := u_known (C := RX3) (T := TX3) (N := 1) hts (fun w h => lw_all_tbl (in_X3 w h)) (hts _ (lw_all_tbl q495))
      exact ⟨(a, b), h⟩
    · obtain ⟨a, b, h⟩ := u_known (C := RX5) (T := TX5) (N := 8) hts (fun w h => lw_all_tbl (in_X5 w h)) (hts _ (lw_all_tbl q569))
      exact ⟨(a, b), h⟩
    · obtain ⟨a, b, h⟩ := u_known (C := RX6) (T := TX6) (N := 8) hts (fun w h => lw_all_tbl (in_X6 w h)) (hts _ (lw_all_tbl q575))
      exact ⟨(a, b), h⟩
    · obtain ⟨a, b, h⟩ := u_known (C := RX7) (T := TX7) (N := 15) hts (fun w h => lw_all_tbl (in_X7 w h)) (hts _ (lw_all_tbl q712))
      exact ⟨(a, b), h⟩
    · obtain ⟨a, b, h⟩ := u_known (C := RX9) (T := TX9) (N := 9) hts (fun w h => lw_all_tbl (in_X9 w h)) (hts _ (lw_all_tbl q1176))
      exact ⟨(a, b), h⟩
    · obtain ⟨a, b, h⟩ := u_known (C := RX10) (T := TX10) (N := 8) hts (fun w h => lw_all_tbl (in_X10 w h)) (hts _ (lw_all_tbl q1305))
      exact ⟨(a, b), h⟩
    · obtain ⟨a, b, h⟩ := u_known (C := RX12) (T := TX12) (N := 1) hts (fun w h => lw_all_tbl (in_X12 w h)) (hts _ (lw_all_tbl q1361))
      exact ⟨(a, b), h⟩
    · obtain ⟨a, b, h⟩ := u_known (C := RX13) (T := TX13) (N := 1) hts (fun w h => lw_all_tbl (in_X13 w h)) (hts _ (lw_all_tbl q1396))
      exact ⟨(a, b), h⟩
    · obtain ⟨a, b, h⟩ := u_known (C := RX14) (T := TX14) (N := 3) hts (fun w h => lw_all_tbl (in_X14 w h)) (hts _ (lw_all_tbl q1423))
      exact ⟨(a, b), h⟩
    · obtain ⟨a, b, h⟩ := u_known (C := RX15) (T := TX15) (N := 1) hts (fun w h => lw_all_tbl (in_X15 w h)) (hts _ (lw_all_tbl q1443))
      exact ⟨(a, b), h⟩
    · obtain ⟨a, b, h⟩ := u_known (C := RX16) (T := TX16) (N := 6) hts (fun w h => lw_all_tbl (in_X16 w h)) (hts _ (lw_all_tbl q1538))
      exact ⟨(a, b), h⟩
    · obtain ⟨a, b, h⟩ := u_known (C := RX17) (T := TX17) (N := 6) hts (fun w h => lw_all_tbl (in_X17 w h)) (hts _ (lw_all_tbl q1517))
      exact ⟨(a, b), h⟩
    · obtain ⟨a, b, h⟩ := u_known (C := RX18) (T := TX18) (N := 6) hts (fun w h => lw_all_tbl (in_X18 w h)) (hts _ (lw_all_tbl q1478))
      exact ⟨(a, b), h⟩
    · obtain ⟨a, b, h⟩ := u_known (C := RX19) (T := TX19) (N := 6) hts (fun w h => lw_all_tbl (in_X19 w h)) (hts _ (lw_all_tbl q1526))
      exact ⟨(a, b), h⟩
    · obtain ⟨a, b, h⟩ := u_known (C := RJ2) (T := TJ2) (N := 3) hts (fun w h => lw_all_tbl (in_J2 w h)) (hts _ (lw_all_tbl q155))
      exact ⟨(a, b), h⟩
    · obtain ⟨a, b, h⟩ := u_known (C := RJ8) (T := TJ8) (N := 4) hts (fun w h => lw_all_tbl (in_J8 w h)) (hts _ (lw_all_tbl q212))
      exact ⟨(a, b), h⟩
    · obtain ⟨a, b, h⟩ := u_known (C := RJ9) (T := TJ9) (N := 4) hts (fun w h => lw_all_tbl (in_J9 w h)) (hts _ (lw_all_tbl q394))
      exact ⟨(a, b), h⟩
  have h0 : ∀ c : Nat, ∃ x : ClassId × (Nat → Nat), ∀ q, CL[c]? = some q → u_Kn s q.1 q.2.1 q.2.2 x.1 x.2 := by
    intro c
    cases hc : CL[c]? with
    | none => exact ⟨(0, fun _ => 0), fun q h => by cases h⟩
    | some q =>
      obtain ⟨x, hx⟩ := hall q (List.mem_of_getElem? hc)
      exact ⟨x, fun q' h => by cases h; exact hx⟩
  obtain ⟨f, hf⟩ := Classical.axiomOfChoice h0
  exact ⟨(fun c => (f c).1, fun c => (f c).2), fun c q h => hf c q h⟩
theorem st_prim {args : Array Value} {s : State} {ty : FieldType} (h : (Cond.arrayClass ty).before args s = true) (hra : ∀ cA, s.vm.findClass ("[" ++ ty.toString) = some cA → va_RA s cA ty) : ∃ cA : ClassId, ArrOfT s cA ty ∧ va_RA s cA ty := by
  obtain ⟨c, k, comp, h1, h2, h3⟩ := Cond.arrayClass_spec (args := args) (first := s) (o := none) (s := s) (idx := []) h
  exact ⟨c, fun n z => ⟨(fun k h => by cases h), k, h2, comp, h3⟩, hra c h1⟩
theorem st_obj {args : Array Value} {s : State} {C : String} (h : (Cond.arrayOver (.object C)).before args s = true) : ∃ cA : ClassId, ArrOfT s cA (.object C) ∧ va_RA s cA (.object C) := by
  obtain ⟨comp, c, k, h1, h2, h3, h4, h5⟩ := Cond.arrayOver_spec (args := args) (first := s) (o := none) (s := s) (idx := []) h
  exact ⟨c, fun n z => ⟨(fun k h => by cases h), k, h3, comp, h4⟩, k, comp, h3, h4, h1, h5⟩
theorem st_K {args : Array Value} {s : State} (hts : ∀ w ∈ lw_tbl, w.before args s = true) : ∃ (D : va_G) (dA : Nat → ClassId), va_K D CL (TYS dA) s := by
  obtain ⟨D, hD⟩ := st_cls hts
  obtain ⟨a0, h0⟩ := st_prim (hts _ (lw_all_tbl q516)) (fun _ h => h)
  obtain ⟨a1, h1⟩ := st_prim (hts _ (lw_all_tbl q242)) (fun _ h => h)
  obtain ⟨a2, h2⟩ := st_prim (hts _ (lw_all_tbl q1277)) (fun _ h => h)
  obtain ⟨a9, h9⟩ := st_prim (hts _ (lw_all_tbl q2382)) (fun _ h => h)
  obtain ⟨b0, g0⟩ := st_obj (hts _ q167)
  obtain ⟨b1, g1⟩ := st_obj (hts _ q1759)
  obtain ⟨b2, g2⟩ := st_obj (hts _ q509)
  refine ⟨D, fun k => if k = 100 then a0 else if k = 101 then a1 else if k = 102 then a2 else if k = 109 then a9 else if k = 110 then b0 else if k = 111 then b1 else b2, hD, fun k q hk => ?_⟩
  have hq : q ∈ TYS (fun k => if k = 100 then a0 else if k = 101 then a1 else if k = 102 then a2 else if k = 109 then a9 else if k = 110 then b0 else if k = 111 then b1 else b2) := List.mem_of_getElem? hk
  simp only [TYS, List.mem_cons, List.not_mem_nil, or_false] at hq
  rcases hq with rfl | rfl | rfl | rfl | rfl | rfl | rfl
  · exact h0
  · exact h1
  · exact h2
  · exact g0
  · exact g1
  · exact g2
  · exact h9
theorem st_NW {args : Array Value} {s : State} (hts : ∀ w ∈ lw_tbl, w.before args s = true) : NWs s := fun w hw hn => match w, hn, hts w hw with
  | .fieldLinkNest _ _ _ _ _ _, _, h1 => va_Nw.of rfl h1
  | .methodLinkNest _ _ _ _, _, h1 => va_Nw.of rfl h1
  | .castable _ _, _, h1 => va_Nw.of rfl h1
  | .declares _, _, h1 => va_Nw.of rfl h1
  | .arrayOver (.object _), _, h1 => va_AO.of h1
theorem st_sort {args : Array Value} {s : State} {A : Nat → Prop} (hts : ∀ w ∈ lw_tbl, w.before args s = true) (hp : ∀ w ∈ flatC prT, w.before args s = true) (hA : ∀ a : Nat, a < s.heap.size → ¬ A a) : ∃ ad : Nat → Nat, va_En "SpoonRow$Sort" "LSpoonRow$Sort;" sortNm [] ad A s s.heap := by
  have e1 : ∀ i, i < 5 → Cond.laysStatic "SpoonRow$Sort" (sortNm.getD i "") "LSpoonRow$Sort;" ∈ lw_tbl := fun i hi => by
    rcases (show i = 0 ∨ i = 1 ∨ i = 2 ∨ i = 3 ∨ i = 4 by omega) with rfl | rfl | rfl | rfl | rfl
    · exact q1222
    · exact q1227
    · exact q1232
    · exact q1234
    · exact q1191
  have e2 : ∀ i, i < 5 → Cond.exactly (.static "SpoonRow$Sort" (sortNm.getD i "") "LSpoonRow$Sort;") "SpoonRow$Sort" ∈ pn1 := by decide +kernel
  have e3 : ∀ i, i < 5 → ∀ j, j < 5 → i ≠ j → (Cond.not (.eq (.static "SpoonRow$Sort" (sortNm.getD i "") "LSpoonRow$Sort;") (.static "SpoonRow$Sort" (sortNm.getD j "") "LSpoonRow$Sort;"))) ∈ pn1 ∨ (Cond.not (.eq (.static "SpoonRow$Sort" (sortNm.getD j "") "LSpoonRow$Sort;") (.static "SpoonRow$Sort" (sortNm.getD i "") "LSpoonRow$Sort;"))) ∈ pn1 := by decide +kernel
  obtain ⟨ad, h1, h2⟩ := va_Enof2 (F := []) (fun i hi => hts _ (e1 i hi)) (hts _ (lw_all_tbl q128)) (fun i hi => hp _ (pn_one (e2 i hi))) (fun q hq => by cases hq) (fun i j hi hj hij => (e3 i hi j hj hij).imp (fun h => hp _ (pn_one h)) (fun h => hp _ (pn_one h))) hA
  exact ⟨ad, h1⟩
theorem st_val {args : Array Value} {s : State} {A : Nat → Prop} (hts : ∀ w ∈ lw_tbl, w.before args s = true) (hp : ∀ w ∈ flatC prT, w.before args s = true) (hA : ∀ a : Nat, a < s.heap.size → ¬ A a) : ∃ (ad : Nat → Nat) (t : Nat), va_En "SpoonRow$Value" "LSpoonRow$Value;" valNm [("java/lang/Enum", "ordinal", "I", [0, 1, 2, 3, 4, 5, 6])] ad A s s.heap ∧ va_Z "SpoonRow$Value" "$VALUES" "[LSpoonRow$Value;" (.ref t) A s s.heap ∧ va_T (.object "SpoonRow$Value") t 7 (fun k => .ref (ad k)) A s s.heap ∧ va_TX "[LSpoonRow$Value;" t 7 (fun k => .ref (ad k)) A s s.heap := by
  have e1 : ∀ i, i < 7 → Cond.laysStatic "SpoonRow$Value" (valNm.getD i "") "LSpoonRow$Value;" ∈ lw_tbl := fun i hi => by
    rcases (show i = 0 ∨ i = 1 ∨ i = 2 ∨ i = 3 ∨ i = 4 ∨ i = 5 ∨ i = 6 by omega) with rfl | rfl | rfl | rfl | rfl | rfl | rfl
    · exact q1029
    · exact q1041
    · exact q1043
    · exact q1045
    · exact q1047
    · exact q1065
    · exact q1067
  have e2 : ∀ i, i < 7 → Cond.exactly (.static "SpoonRow$Value" (valNm.getD i "") "LSpoonRow$Value;") "SpoonRow$Value" ∈ pn1 := by decide +kernel
  have e3 : ∀ i, i < 7 → ∀ j, j < 7 → i ≠ j → (Cond.not (.eq (.static "SpoonRow$Value" (valNm.getD i "") "LSpoonRow$Value;") (.static "SpoonRow$Value" (valNm.getD j "") "LSpoonRow$Value;"))) ∈ pn1 ∨ (Cond.not (.eq (.static "SpoonRow$Value" (valNm.getD j "") "LSpoonRow$Value;") (.static "SpoonRow$Value" (valNm.getD i "") "LSpoonRow$Value;"))) ∈ pn1 := by decide +kernel
  have e4 : ∀ i, i < 7 → (Cond.eq (.field (.static "SpoonRow$Value" (valNm.getD i "") "LSpoonRow$Value;") "java/lang/Enum" "ordinal" "I") (.int (([0, 1, 2, 3, 4, 5, 6] : List Int32).getD i 0))) ∈ pn1 := by decide +kernel
  have e5 : ∀ i, i < 7 → (Cond.eq (.elem (.static "SpoonRow$Value" "$VALUES" "[LSpoonRow$Value;") (.int (Int32.ofNat i))) (.static "SpoonRow$Value" (valNm.getD i "") "LSpoonRow$Value;")) ∈ pn1 := by decide +kernel
  have e6 : (Cond.arrayOf (.static "SpoonRow$Value" "$VALUES" "[LSpoonRow$Value;") (.object "SpoonRow$Value")) ∈ pn1 ∧ (Cond.eq (.length (.static "SpoonRow$Value" "$VALUES" "[LSpoonRow$Value;")) (.int 7)) ∈ pn1 ∧ (Cond.exactly (.static "SpoonRow$Value" "$VALUES" "[LSpoonRow$Value;") "[LSpoonRow$Value;") ∈ pn1 ∧ (Cond.all (.static "SpoonRow$Value" "$VALUES" "[LSpoonRow$Value;") (.le (.index 0) (.int 6))) ∈ pn1 := by decide +kernel
  obtain ⟨ad, h1, h2⟩ := va_Enof2 (F := [("java/lang/Enum", "ordinal", "I", [0, 1, 2, 3, 4, 5, 6])]) (fun i hi => hts _ (e1 i hi)) (hts _ (lw_all_tbl q121)) (fun i hi => hp _ (pn_one (e2 i hi))) (fun q hq i hi => by
      rcases List.mem_singleton.mp hq with rfl
      exact hp _ (pn_one (e4 i hi))) (fun i j hi hj hij => (e3 i hi j hj hij).imp (fun h => hp _ (pn_one h)) (fun h => hp _ (pn_one h))) hA
  obtain ⟨t, ht, hT⟩ := va_Tof (f := fun k => .ref (ad k)) (N := 7) (A := A) (by decide) (hp _ (pn_one e6.1)) (va_eqt (hp _ (pn_one e6.2.1))) (fun j hj => va_eqv (hp _ (pn_one (e5 j hj))) (h2 j hj)) hA
  refine ⟨ad, t, h1, va_Zref (hts _ q504) (hts _ (lw_all_tbl q121)) ht hA, hT, ?_⟩
  obtain ⟨cell, a1, a2, a3, a4, a5, a6, a7⟩ := hT
  obtain ⟨a, c, cA, kA, q1, q2, q3, q4, q5, q6, -⟩ := Cond.exactly_spec (args := args) (first := s) (o := none) (s := s) (idx := []) (hp _ (pn_one e6.2.2.1))
  cases ht.symm.trans q1
  cases a1.symm.trans q3
  obtain ⟨b, cell2, r1, r2, r3⟩ := Term.length_spec (va_eqt (hp _ (pn_one e6.2.1)))
  cases ht.symm.trans r1
  obtain ⟨r4, -, -, -⟩ := State.arrayAt?_spec r2
  cases a1.symm.trans r4
  have hall := Cond.all_elim ht r2 (by simpa [Cond.before, Cond.holds] using (hp _ (pn_one e6.2.2.2)))
  refine ⟨cell, a1, by rw [q6]; exact q2, ⟨a3, q5⟩, ?_, a6, a7⟩
  have hs31 : cell.slots.size.toInt32 = Int32.ofNat 7 := a5
  refine Nat.le_antisymm ?_ a4
  refine Nat.not_lt.mp fun hlt => ?_
  have h7 := hall 7 hlt
  rw [Cond.le_ints (x := Int32.ofNat 7) (y := 6) rfl rfl] at h7
  exact absurd h7 (by decide)
theorem st_Zw {args : Array Value} {s : State} {C n d : String} {A : Nat → Prop} (hl : (Cond.laysStatic C n d).before args s = true) (hini : (Cond.initialized C).before args s = true) (h : (Cond.isRef (.static C n d)).before args s = true) (hA : ∀ a : Nat, a < s.heap.size → ¬ A a) : ∃ t : Nat, ∀ (pl : Nat) (ad : Nat → Nat), pl ≠ 0 → ad pl = t → va_Zw C n d pl ad A s s.heap := by
  rcases va_Zqof hl hini h hA with h | ⟨t, h⟩
  · exact ⟨0, fun pl ad _ _ => ⟨0, Or.inl rfl, h⟩⟩
  · exact ⟨t, fun pl ad h0 e => ⟨pl, Or.inr rfl, by rw [rv_nz h0, e]; exact h⟩⟩
theorem st_KB {args : Array Value} {s : State} {A : Nat → Prop} (b : Nat) (hts : ∀ w ∈ lw_tbl, w.before args s = true) (hp : ∀ w ∈ flatC prT, w.before args s = true) (hA : ∀ a : Nat, a < s.heap.size → ¬ A a) : ∃ (D : va_G) (dA : Nat → ClassId) (ad : Nat → Nat), KB D dA ad A s s.heap ∧ ad 140 = b := by
  obtain ⟨D, dA, hK⟩ := st_K hts
  obtain ⟨adK, adV, hS, hSe⟩ := st_str hp hA
  obtain ⟨aS, hSort⟩ := st_sort hts hp hA
  obtain ⟨aV, t, hVal, hZ, hT, hTX⟩ := st_val hts hp hA
  have m1 : (Cond.isRef (Term.mirror "[Ljava/lang/Object;")) ∈ pn1 ∧ (Cond.isRef (Term.static "java/lang/Throwable" "UNASSIGNED_STACK" "[Ljava/lang/StackTraceElement;")) ∈ pn1 ∧ (Cond.isRef (Term.static "java/lang/Throwable" "SUPPRESSED_SENTINEL" "Ljava/util/List;")) ∈ pn1 ∧ (Cond.eq (Term.static "java/lang/String" "COMPACT_STRINGS" "Z") (Term.int 1)) ∈ pn1 ∧ (Cond.isRef (Term.static "jdk/internal/util/Preconditions" "SIOOBE_FORMATTER" "Ljava/util/function/BiFunction;")) ∈ pn1 ∧ (Cond.not (.castable "java/lang/IllegalArgumentException" "java/util/NoSuchElementException")) ∈ pn1 := by decide +kernel
  obtain ⟨mi, hMi⟩ := va_Mi.of (hp _ (pn_one m1.1))
  obtain ⟨tU, hU⟩ := st_Zw (hts _ q197) (hts _ (lw_all_tbl q103)) (hp _ (pn_one m1.2.1)) hA
  obtain ⟨tN, hN⟩ := st_Zw (hts _ q199) (hts _ (lw_all_tbl q103)) (hp _ (pn_one m1.2.2.1)) hA
  obtain ⟨tF, hF⟩ := st_Zw (hts _ q308) (hts _ (lw_all_tbl q115)) (hp _ (pn_one m1.2.2.2.2.1)) hA
  have sr : ∀ e ∈ SR, Cond.stringRef e.1 e.2.1 e.2.2.1 ∈ lw_tbl := by
    have h : ∀ e ∈ SR, (Cond.stringRef e.1 e.2.1 e.2.2.1) ∈ srL := by decide +kernel
    exact fun e he => srL_in _ (h e he)
  refine ⟨D, dA, fun p => if p = 140 then b else if p = 130 then mi else if p = 131 then tF else if p = 132 then tU else if p = 133 then tN else if p = 120 then t else if 105 ≤ p ∧ p < 112 then aV (p - 105) else if 100 ≤ p ∧ p < 105 then aS (p - 100) else if p % 2 = 1 then adK ((p - 1) / 2) else adV ((p - 2) / 2), ⟨hK, st_NW hts, ?_⟩, rfl⟩
  have eK : ∀ i, i < 30 → (fun p => if p = 140 then b else if p = 130 then mi else if p = 131 then tF else if p = 132 then tU else if p = 133 then tN else if p = 120 then t else if 105 ≤ p ∧ p < 112 then aV (p - 105) else if 100 ≤ p ∧ p < 105 then aS (p - 100) else if p % 2 = 1 then adK ((p - 1) / 2) else adV ((p - 2) / 2)) (1 + 2 * i) = adK i := fun i hi => by
    show (if 1 + 2 * i = 140 then b else _) = _
    rw [if_neg (by omega), if_neg (by omega), if_neg (by omega), if_neg (by omega), if_neg (by omega), if_neg (by omega), if_neg (by omega), if_neg (by omega), if_pos (by omega)]
    congr 1
    omega
  have eV : ∀ i, i < 30 → (fun p => if p = 140 then b else if p = 130 then mi else if p = 131 then tF else if p = 132 then tU else if p = 133 then tN else if p = 120 then t else if 105 ≤ p ∧ p < 112 then aV (p - 105) else if 100 ≤ p ∧ p < 105 then aS (p - 100) else if p % 2 = 1 then adK ((p - 1) / 2) else adV ((p - 2) / 2)) (2 + 2 * i) = adV i := fun i hi => by
    show (if 2 + 2 * i = 140 then b else _) = _
    rw [if_neg (by omega), if_neg (by omega), if_neg (by omega), if_neg (by omega), if_neg (by omega), if_neg (by omega), if_neg (by omega), if_neg (by omega), if_neg (by omega)]
    congr 1
    omega
  have eS : ∀ i, i < 5 → (fun p => if p = 140 then b else if p = 130 then mi else if p = 131 then tF else if p = 132 then tU else if p = 133 then tN else if p = 120 then t else if 105 ≤ p ∧ p < 112 then aV (p - 105) else if 100 ≤ p ∧ p < 105 then aS (p - 100) else if p % 2 = 1 then adK ((p - 1) / 2) else adV ((p - 2) / 2)) (100 + i) = aS i := fun i hi => by
    show (if 100 + i = 140 then b else _) = _
    rw [if_neg (by omega), if_neg (by omega), if_neg (by omega), if_neg (by omega), if_neg (by omega), if_neg (by omega), if_neg (by omega), if_pos (by omega)]
    congr 1
    omega
  have eW : ∀ i, i < 7 → (fun p => if p = 140 then b else if p = 130 then mi else if p = 131 then tF else if p = 132 then tU else if p = 133 then tN else if p = 120 then t else if 105 ≤ p ∧ p < 112 then aV (p - 105) else if 100 ≤ p ∧ p < 105 then aS (p - 100) else if p % 2 = 1 then adK ((p - 1) / 2) else adV ((p - 2) / 2)) (105 + i) = aV i := fun i hi => by
    show (if 105 + i = 140 then b else _) = _
    rw [if_neg (by omega), if_neg (by omega), if_neg (by omega), if_neg (by omega), if_neg (by omega), if_neg (by omega), if_pos (by omega)]
    congr 1
    omega
  generalize hadE : (fun p => if p = 140 then b else if p = 130 then mi else if p = 131 then tF else if p = 132 then tU else if p = 133 then tN else if p = 120 then t else if 105 ≤ p ∧ p < 112 then aV (p - 105) else if 100 ≤ p ∧ p < 105 then aS (p - 100) else if p % 2 = 1 then adK ((p - 1) / 2) else adV ((p - 2) / 2)) = ad at *
  have e130 : ad 130 = mi := by rw [← hadE]; rfl
  have e131 : ad 131 = tF := by rw [← hadE]; rfl
  have e132 : ad 132 = tU := by rw [← hadE]; rfl
  have e133 : ad 133 = tN := by rw [← hadE]; rfl
  have e120 : ad 120 = t := by rw [← hadE]; rfl
  refine ⟨⟨fun i hi => ?_, fun i j hi hj => ?_⟩, fun e he => ?_, ⟨fun i hi => ?_, fun i j hi hj => ?_⟩, ⟨fun i hi => ?_, fun i j hi hj => ?_⟩, by rw [e120]; exact hZ, ?_, va_Zof (hts _ q221) (hts _ (lw_all_tbl q109)) (va_eqi (hp _ (pn_one m1.2.2.2.1))) hA, vx_Zqof (hts _ q197) (hts _ (lw_all_tbl q103)) (hp _ (pn_one m1.2.1)) hA, vx_Zqof (hts _ q199) (hts _ (lw_all_tbl q103)) (hp _ (pn_one m1.2.2.1)) hA, va_Nc.of (hp _ (pn_one m1.2.2.2.2.2)), by rw [e130]; exact hMi, ?_, hF 131 ad (by decide) e131, ?_, hU 132 ad (by decide) e132, hN 133 ad (by decide) e133⟩
  · simp only [eK i hi, eV i hi]
    exact hS.1 i hi
  · simp only [eK i hi, eK j hj]
    exact hS.2 i j hi hj
  · rw [eK _ ((by decide : ∀ e ∈ SR, e.2.2.2 < 30) e he)]
    exact vk_R.of (hts _ (sr e he)) (hSe e he)
  · have hi5 : i < 5 := hi
    simp only [eS i hi5]
    exact hSort.1 i hi
  · have hi5 : i < 5 := hi
    have hj5 : j < 5 := hj
    simp only [eS i hi5, eS j hj5]
    exact hSort.2 i j hi hj
  · have hi5 : i < 7 := hi
    simp only [eW i hi5]
    exact hVal.1 i hi
  · have hi5 : i < 7 := hi
    have hj5 : j < 7 := hj
    simp only [eW i hi5, eW j hj5]
    exact hVal.2 i j hi hj
  · rw [e120]
    obtain ⟨cell, g1, g2, g3, g4, g5, g6, g7⟩ := hT
    exact ⟨cell, g1, g2, g3, g4, g5, fun j hj => by simp only [eW j hj]; exact g6 j hj, g7⟩
  · exact st_sel (hts _ (lw_all_tbl q212)) (hts _ q256) (hts _ (lw_all_tbl q257)) (hts _ (lw_all_tbl q293))
  · rw [e120]
    obtain ⟨cell, g1, g2, g3, g4, g5, g6⟩ := hTX
    exact ⟨cell, g1, g2, g3, g4, fun j hj => by simp only [eW j hj]; exact g5 j hj, g6⟩
