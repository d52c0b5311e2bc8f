/-! ===== what a clause says: steps two by two, worked on two piles ===== -/
set_option maxRecDepth 100000
def clipz (z : Int) : Int := if 1000000 < z then 1000000 else if z < -1000000 then -1000000 else z
def twoz (o x y : Int) : Int := if o = 3 then clipz (x + y) else if o = 4 then clipz (x - y) else if o = 5 then clipz (x * y) else if y = 0 then 0 else clipz (x.tdiv y)
def askz (o x y : Int) : Int := if o = 10 then jb (x < y) else if o = 11 then jb (x ≤ y) else if o = 12 then jb (y < x) else if o = 13 then jb (y ≤ x) else if o = 14 then jb (x = y) else jb (¬ x = y)
abbrev rpS : Type := List Int × List Int
def rst (N : Int → Int) (c : Int × Int) (s : rpS) : Option rpS :=
  if c.1 ≤ 1 then some ((if c.1 = 0 then c.2 else N c.2) :: s.1, s.2)
  else if c.1 = 2 then (match s.1 with
    | x :: vs => some (-x :: vs, s.2)
    | _ => none)
  else if c.1 < 10 then (match s.1 with
    | y :: x :: vs => some (twoz c.1 x y :: vs, s.2)
    | _ => none)
  else if c.1 < 20 then (match s.1 with
    | y :: x :: vs => some (vs, askz c.1 x y :: s.2)
    | _ => none)
  else if c.1 = 20 then (match s.2 with
    | t :: ts => some (s.1, jb (t = 0) :: ts)
    | _ => none)
  else (match s.2 with
    | t2 :: t1 :: ts => some (s.1, (if c.1 = 21 then jb (¬ t1 = 0 ∧ ¬ t2 = 0) else jb (¬ t1 = 0 ∨ ¬ t2 = 0)) :: ts)
    | _ => none)
def rpn (N : Int → Int) : List (Int × Int) → rpS → Option rpS
  | [], s => some s
  | c :: cs, s => match rst N c s with
    | some s' => rpn N cs s'
    | none => none
/-- a step that may stand in a clause: p tells which names may -/
def okC (p : Int → Prop) (c : Int × Int) : Prop := (c.1 = 0 ∧ 0 ≤ c.2 ∧ c.2 ≤ 9999) ∨ (c.1 = 1 ∧ p c.2) ∨ (2 ≤ c.1 ∧ c.1 ≤ 6) ∨ (10 ≤ c.1 ∧ c.1 ≤ 15) ∨ (20 ≤ c.1 ∧ c.1 ≤ 22)
def bdV (vs : List Int) : Prop := ∀ z ∈ vs, -1000000 ≤ z ∧ z ≤ 1000000
def bdT (ts : List Int) : Prop := ∀ z ∈ ts, 0 ≤ z ∧ z ≤ 1
theorem bdV_cons {z : Int} {l : List Int} : bdV (z :: l) ↔ (-1000000 ≤ z ∧ z ≤ 1000000) ∧ bdV l := List.forall_mem_cons
theorem bdT_cons {z : Int} {l : List Int} : bdT (z :: l) ↔ (0 ≤ z ∧ z ≤ 1) ∧ bdT l := List.forall_mem_cons
theorem clipz_bd (z : Int) : -1000000 ≤ clipz z ∧ clipz z ≤ 1000000 := by
  unfold clipz
  split
  · omega
  · split <;> omega
theorem twoz_bd (o x y : Int) : -1000000 ≤ twoz o x y ∧ twoz o x y ≤ 1000000 := by
  unfold twoz
  repeat' split
  all_goals first | exact clipz_bd _ | omega
theorem askz_bd (o x y : Int) : 0 ≤ askz o x y ∧ askz o x y ≤ 1 := by
  unfold askz
  repeat' split
  all_goals exact jb_01
/-- on a pile, and under its top -/
def stk (f : Int → Int) : List Int → Prop
  | [] => True
  | z :: l => f (l.length : Int) = z ∧ stk f l
theorem stk_up {f : Int → Int} {k z : Int} : ∀ (l : List Int), (l.length : Int) ≤ k → stk f l → stk (up1 f k z) l
  | [], _, _ => trivial
  | w :: l, h, hs => by
    simp only [List.length_cons] at h
    exact ⟨by rw [up1_ne (by omega)]; exact hs.1, stk_up l (by omega) hs.2⟩
/-- steps as they lie in the texts -/
def cdl (X : Int → Int) (b : Int) : Nat → List (Int × Int)
  | 0 => []
  | n + 1 => (X b, X (b + 1)) :: cdl X (b + 2) n
theorem cdl_len {X : Int → Int} : ∀ (n : Nat) (b : Int), (cdl X b n).length = n
  | 0, _ => rfl
  | n + 1, b => by unfold cdl; rw [List.length_cons, cdl_len n]
theorem rst_congr {N N' : Int → Int} {p : Int → Prop} (h : ∀ i, p i → N i = N' i) {c : Int × Int} (hc : okC p c) {s : rpS} : rst N c s = rst N' c s := by
  have e : c.1 = 1 → N c.2 = N' c.2 := fun h1 => by
    rcases hc with q | q | q | q | q
    · omega
    · exact h _ q.2
    · omega
    · omega
    · omega
  unfold rst
  by_cases h1 : c.1 ≤ 1
  · rw [if_pos h1, if_pos h1]
    by_cases h0 : c.1 = 0
    · rw [if_pos h0, if_pos h0]
    · have h2 : c.1 = 1 := by
        rcases hc with q | q | q | q | q
        · omega
        · exact q.1
        · omega
        · omega
        · omega
      rw [if_neg h0, if_neg h0, e h2]
  · rw [if_neg h1, if_neg h1]
theorem rpn_congr {N N' : Int → Int} {p : Int → Prop} (h : ∀ i, p i → N i = N' i) : ∀ (cs : List (Int × Int)) (s : rpS), (∀ c ∈ cs, okC p c) → rpn N cs s = rpn N' cs s
  | [], _, _ => rfl
  | c :: cs, s, hc => by
    unfold rpn
    rw [rst_congr h (hc c (List.mem_cons_self ..))]
    cases rst N' c s with
    | none => rfl
    | some s' => exact rpn_congr h cs s' (fun q hq => hc q (List.mem_cons_of_mem _ hq))
section TG
variable {g : jjG} {d : Nat} {T : jjT} {Q : jjQ} {v : Int → Int → Int}
theorem tw_clip {z : Int} (hT : PT T) (hV : PV v) (hS : inL z) (hQ : Q (.inl (some (vL (clipz z)))) (v, T)) : jmet g (d + 1) 0 0 MX2_clip [vL z] (v, T) Q := by
  refine jmet_of (ls := [some (vL z), none]) sX2_clip rfl (by decide +kernel) (by decide) rfl (by simp [jent]) ?_
  unfold clipz at hQ
  refine jW_step ?_
  simp (disch := omega) only [bX2_clip, jxs, hps, jtsw, jlsw, List.length_cons, List.length_nil, true_and, and_true, true_implies, false_implies, implies_true, not_true_eq_false, not_false_eq_true, false_and, and_false, if_true, if_false, or_true, true_or, or_false, false_or, Classical.not_not, and_self, Int.reduceAdd, Int.reduceMul, Int.reduceSub, Int.reduceNeg, Int.reduceLT, Int.reduceLE, Int.reduceEq, Int.reduceNe, Int.reduceToNat, Nat.reduceAdd, Nat.reduceMul, Nat.reduceSub, Nat.reduceLeDiff, Nat.reduceLT, Nat.reduceEqDiff, reduceIte, Nat.zero_le, Nat.le_refl, Nat.add_zero, Nat.zero_add, twT hT, twV hV, jcmp]
  refine ⟨fun h => ?_, fun h => ?_⟩
  · have h1 : ¬ 1000000 < z := by
      intro q
      rw [if_neg (by omega), if_neg (by omega)] at h
      omega
    rw [if_neg h1] at hQ
    refine ⟨fun h2 => ?_, fun h2 => ?_⟩
    · have h3 : ¬ z < -1000000 := by
        intro q
        rw [if_pos (by omega)] at h2
        omega
      rw [if_neg h3] at hQ
      refine jW_step ?_
      simp (disch := omega) only [bX2_clip, jxs, hps, jtsw, jlsw, List.length_cons, List.length_nil, true_and, and_true, true_implies, false_implies, implies_true, not_true_eq_false, not_false_eq_true, false_and, and_false, if_true, if_false, or_true, true_or, or_false, false_or, Classical.not_not, and_self, Int.reduceAdd, Int.reduceMul, Int.reduceSub, Int.reduceNeg, Int.reduceLT, Int.reduceLE, Int.reduceEq, Int.reduceNe, Int.reduceToNat, Nat.reduceAdd, Nat.reduceMul, Nat.reduceSub, Nat.reduceLeDiff, Nat.reduceLT, Nat.reduceEqDiff, reduceIte, Nat.zero_le, Nat.le_refl, Nat.add_zero, Nat.zero_add, twT hT, twV hV]
      (repeat (refine And.intro (by (first | omega | assumption | trivial | (simp only [inI]; omega) | (simp only [inL]; omega) | (refine jb_01) | (exact jb_in))) ?_))
      exact hQ
    · have h3 : z < -1000000 := by
        by_cases q : z < -1000000
        · exact q
        · rw [if_neg (by omega)] at h2
          split at h2 <;> omega
      rw [if_pos h3] at hQ
      refine jW_step ?_
      simp (disch := omega) only [bX2_clip, jxs, hps, jtsw, jlsw, List.length_cons, List.length_nil, true_and, and_true, true_implies, false_implies, implies_true, not_true_eq_false, not_false_eq_true, false_and, and_false, if_true, if_false, or_true, true_or, or_false, false_or, Classical.not_not, and_self, Int.reduceAdd, Int.reduceMul, Int.reduceSub, Int.reduceNeg, Int.reduceLT, Int.reduceLE, Int.reduceEq, Int.reduceNe, Int.reduceToNat, Nat.reduceAdd, Nat.reduceMul, Nat.reduceSub, Nat.reduceLeDiff, Nat.reduceLT, Nat.reduceEqDiff, reduceIte, Nat.zero_le, Nat.le_refl, Nat.add_zero, Nat.zero_add, twT hT, twV hV]
      (repeat (refine And.intro (by (first | omega | assumption | trivial | (simp only [inI]; omega) | (simp only [inL]; omega) | (refine jb_01) | (exact jb_in))) ?_))
      exact hQ
  · have h1 : 1000000 < z := by
      by_cases q : 1000000 < z
      · exact q
      · exfalso
        apply h
        repeat' split
        all_goals omega
    rw [if_pos h1] at hQ
    refine jW_step ?_
    simp (disch := omega) only [bX2_clip, jxs, hps, jtsw, jlsw, List.length_cons, List.length_nil, true_and, and_true, true_implies, false_implies, implies_true, not_true_eq_false, not_false_eq_true, false_and, and_false, if_true, if_false, or_true, true_or, or_false, false_or, Classical.not_not, and_self, Int.reduceAdd, Int.reduceMul, Int.reduceSub, Int.reduceNeg, Int.reduceLT, Int.reduceLE, Int.reduceEq, Int.reduceNe, Int.reduceToNat, Nat.reduceAdd, Nat.reduceMul, Nat.reduceSub, Nat.reduceLeDiff, Nat.reduceLT, Nat.reduceEqDiff, reduceIte, Nat.zero_le, Nat.le_refl, Nat.add_zero, Nat.zero_add, twT hT, twV hV]
    (repeat (refine And.intro (by (first | omega | assumption | trivial | (simp only [inI]; omega) | (simp only [inL]; omega) | (refine jb_01) | (exact jb_in))) ?_))
    exact hQ
end TG
