/-! LAYER 2: the mark of the house's functions (227) stays while errors go down; a run that is broken off stays so (178) -/
def kp (v : Int32) (o : Option mS) : Prop := ∀ τ, o = some τ → sF τ 227 = v
def kq {β : Type} (v : Int32) (o : Option (β × mS)) : Prop := ∀ z, o = some z → sF z.2 227 = v
theorem kp_none {v : Int32} : kp v none := fun _ h => nomatch h
theorem kq_none {β : Type} {v : Int32} : kq (β := β) v none := fun _ h => nomatch h
theorem kp_some {v : Int32} {σ : mS} (h : sF σ 227 = v) : kp v (some σ) := fun τ q => by cases q; exact h
theorem kq_some {β : Type} {v : Int32} {σ : mS} {b : β} (h : sF σ 227 = v) : kq v (some (b, σ)) := fun τ q => by cases q; exact h
theorem kp_gd {v : Int32} {b : Bool} {k : Option mS} (h : kp v k) : kp v (gd b k) := by cases b; exact kp_none; exact h
theorem kq_gd {β : Type} {v : Int32} {b : Bool} {k : Option (β × mS)} (h : kq v k) : kq v (gd b k) := by cases b; exact kq_none; exact h
theorem kp_bd {v : Int32} {x : Option mS} {f : mS → Option mS} (hx : kp v x) (hf : ∀ z, sF z 227 = v → kp v (f z)) : kp v (bd x f) := by
  cases x with
  | none => exact kp_none
  | some z => exact hf z (hx z rfl)
theorem kp_bdq {β : Type} {v : Int32} {x : Option (β × mS)} {f : β × mS → Option mS} (hx : kq v x) (hf : ∀ z : β × mS, sF z.2 227 = v → kp v (f z)) : kp v (bd x f) := by
  cases x with
  | none => exact kp_none
  | some z => exact hf z (hx z rfl)
theorem kq_bd {β : Type} {v : Int32} {x : Option mS} {f : mS → Option (β × mS)} (hx : kp v x) (hf : ∀ z, sF z 227 = v → kq v (f z)) : kq v (bd x f) := by
  cases x with
  | none => exact kq_none
  | some z => exact hf z (hx z rfl)
theorem kq_bdq {α β : Type} {v : Int32} {x : Option (α × mS)} {f : α × mS → Option (β × mS)} (hx : kq v x) (hf : ∀ z : α × mS, sF z.2 227 = v → kq v (f z)) : kq v (bd x f) := by
  cases x with
  | none => exact kq_none
  | some z => exact hf z (hx z rfl)
theorem kp_if {v : Int32} {c : Prop} [Decidable c] {a b : Option mS} (ha : kp v a) (hb : kp v b) : kp v (if c then a else b) := by
  by_cases h : c
  · rw [if_pos h]; exact ha
  · rw [if_neg h]; exact hb
theorem kq_if {β : Type} {v : Int32} {c : Prop} [Decidable c] {a b : Option (β × mS)} (ha : kq v a) (hb : kq v b) : kq v (if c then a else b) := by
  by_cases h : c
  · rw [if_pos h]; exact ha
  · rw [if_neg h]; exact hb
theorem k_put {N : Nat} {v : Int32} {μ : mS} {b : Int32} (h : sF μ 227 = v) : kp v (mm_put N μ b) := by
  simp only [mm_put, mm_put_23, lt]
  (repeat' (first | exact kp_none | exact kq_none | refine kp_gd ?_ | refine kq_gd ?_ | refine kp_if ?_ ?_ | refine kq_if ?_ ?_ | refine kp_some (by first | assumption | (simp only [sF_pi, sF_pl, sF_ai, sF_al, sG_pi, sG_pl, sG_ai, sG_al, sI_pi, sI_pl, sI_al, sI_ai1, sI_ai2, sJ_pi, sJ_pl, sJ_ai, sJ_al1, sJ_al2, Nat.reduceEqDiff, if_true, if_false, ne_eq, not_false_eq_true, ite_true, ite_false]; assumption)) | refine kq_some (by first | assumption | (simp only [sF_pi, sF_pl, sF_ai, sF_al, sG_pi, sG_pl, sG_ai, sG_al, sI_pi, sI_pl, sI_al, sI_ai1, sI_ai2, sJ_pi, sJ_pl, sJ_ai, sJ_al1, sJ_al2, Nat.reduceEqDiff, if_true, if_false, ne_eq, not_false_eq_true, ite_true, ite_false]; assumption)) | refine kp_bd (k_put (by first | assumption | (simp only [sF_pi, sF_pl, sF_ai, sF_al, sG_pi, sG_pl, sG_ai, sG_al, sI_pi, sI_pl, sI_al, sI_ai1, sI_ai2, sJ_pi, sJ_pl, sJ_ai, sJ_al1, sJ_al2, Nat.reduceEqDiff, if_true, if_false, ne_eq, not_false_eq_true, ite_true, ite_false]; assumption))) (fun z hz => ?_)))
theorem k_putText2 {N t : Nat} {v : Int32} : ∀ (n : Nat) (i : Int32) (μ : mS), sF μ 227 = v → kp v (mm_putText_2 N n t i μ)
  | 0, _, _, _ => kp_none
  | n + 1, i, μ, h => by
    simp only [mm_putText_2, lt]
    (repeat' (first | exact kp_none | exact kq_none | refine kp_gd ?_ | refine kq_gd ?_ | refine kp_if ?_ ?_ | refine kq_if ?_ ?_ | refine kp_some (by first | assumption | (simp only [sF_pi, sF_pl, sF_ai, sF_al, sG_pi, sG_pl, sG_ai, sG_al, sI_pi, sI_pl, sI_al, sI_ai1, sI_ai2, sJ_pi, sJ_pl, sJ_ai, sJ_al1, sJ_al2, Nat.reduceEqDiff, if_true, if_false, ne_eq, not_false_eq_true, ite_true, ite_false]; assumption)) | refine kq_some (by first | assumption | (simp only [sF_pi, sF_pl, sF_ai, sF_al, sG_pi, sG_pl, sG_ai, sG_al, sI_pi, sI_pl, sI_al, sI_ai1, sI_ai2, sJ_pi, sJ_pl, sJ_ai, sJ_al1, sJ_al2, Nat.reduceEqDiff, if_true, if_false, ne_eq, not_false_eq_true, ite_true, ite_false]; assumption)) | refine kp_bd (k_put (by first | assumption | (simp only [sF_pi, sF_pl, sF_ai, sF_al, sG_pi, sG_pl, sG_ai, sG_al, sI_pi, sI_pl, sI_al, sI_ai1, sI_ai2, sJ_pi, sJ_pl, sJ_ai, sJ_al1, sJ_al2, Nat.reduceEqDiff, if_true, if_false, ne_eq, not_false_eq_true, ite_true, ite_false]; assumption))) (fun z hz => ?_)))
    all_goals exact k_putText2 n _ _ (by assumption)
theorem k_putText {N t : Nat} {v : Int32} {μ : mS} (h : sF μ 227 = v) : kp v (mm_putText N μ t) := k_putText2 N 0 μ h
theorem k_pn57 {N : Nat} {v : Int32} : ∀ (n : Nat) (a b : Int64) (i j : Int32) (μ : mS), sF μ 227 = v → kp v (mm_putNumber_57 N n a b i j μ)
  | 0, _, _, _, _, _, _ => kp_none
  | n + 1, a, b, i, j, μ, h => by
    simp only [mm_putNumber_57, lt]
    (repeat' (first | exact kp_none | exact kq_none | refine kp_gd ?_ | refine kq_gd ?_ | refine kp_if ?_ ?_ | refine kq_if ?_ ?_ | refine kp_some (by first | assumption | (simp only [sF_pi, sF_pl, sF_ai, sF_al, sG_pi, sG_pl, sG_ai, sG_al, sI_pi, sI_pl, sI_al, sI_ai1, sI_ai2, sJ_pi, sJ_pl, sJ_ai, sJ_al1, sJ_al2, Nat.reduceEqDiff, if_true, if_false, ne_eq, not_false_eq_true, ite_true, ite_false]; assumption)) | refine kq_some (by first | assumption | (simp only [sF_pi, sF_pl, sF_ai, sF_al, sG_pi, sG_pl, sG_ai, sG_al, sI_pi, sI_pl, sI_al, sI_ai1, sI_ai2, sJ_pi, sJ_pl, sJ_ai, sJ_al1, sJ_al2, Nat.reduceEqDiff, if_true, if_false, ne_eq, not_false_eq_true, ite_true, ite_false]; assumption)) | refine kp_bd (k_put (by first | assumption | (simp only [sF_pi, sF_pl, sF_ai, sF_al, sG_pi, sG_pl, sG_ai, sG_al, sI_pi, sI_pl, sI_al, sI_ai1, sI_ai2, sJ_pi, sJ_pl, sJ_ai, sJ_al1, sJ_al2, Nat.reduceEqDiff, if_true, if_false, ne_eq, not_false_eq_true, ite_true, ite_false]; assumption))) (fun z hz => ?_)))
    all_goals exact k_pn57 n _ _ _ _ _ (by assumption)
theorem k_pn31 {N : Nat} {v : Int32} : ∀ (n : Nat) (a b : Int64) (i : Int32) (μ : mS), sF μ 227 = v → kp v (mm_putNumber_31 N n a b i μ)
  | 0, _, _, _, _, _ => kp_none
  | n + 1, a, b, i, μ, h => by
    simp only [mm_putNumber_31, lt]
    (repeat' (first | exact kp_none | exact kq_none | refine kp_gd ?_ | refine kq_gd ?_ | refine kp_if ?_ ?_ | refine kq_if ?_ ?_ | refine kp_some (by first | assumption | (simp only [sF_pi, sF_pl, sF_ai, sF_al, sG_pi, sG_pl, sG_ai, sG_al, sI_pi, sI_pl, sI_al, sI_ai1, sI_ai2, sJ_pi, sJ_pl, sJ_ai, sJ_al1, sJ_al2, Nat.reduceEqDiff, if_true, if_false, ne_eq, not_false_eq_true, ite_true, ite_false]; assumption)) | refine kq_some (by first | assumption | (simp only [sF_pi, sF_pl, sF_ai, sF_al, sG_pi, sG_pl, sG_ai, sG_al, sI_pi, sI_pl, sI_al, sI_ai1, sI_ai2, sJ_pi, sJ_pl, sJ_ai, sJ_al1, sJ_al2, Nat.reduceEqDiff, if_true, if_false, ne_eq, not_false_eq_true, ite_true, ite_false]; assumption)) | refine kp_bd (k_put (by first | assumption | (simp only [sF_pi, sF_pl, sF_ai, sF_al, sG_pi, sG_pl, sG_ai, sG_al, sI_pi, sI_pl, sI_al, sI_ai1, sI_ai2, sJ_pi, sJ_pl, sJ_ai, sJ_al1, sJ_al2, Nat.reduceEqDiff, if_true, if_false, ne_eq, not_false_eq_true, ite_true, ite_false]; assumption))) (fun z hz => ?_)))
    · exact k_pn57 _ _ _ _ _ _ h
    · exact k_pn31 n _ _ _ _ h
theorem k_pn12 {N : Nat} {v : Int32} {a : Int64} {μ : mS} (h : sF μ 227 = v) : kp v (mm_putNumber_12 N a μ) := by
  simp only [mm_putNumber_12, mm_putNumber_26, lt]
  (repeat' (first | exact kp_none | exact kq_none | refine kp_gd ?_ | refine kq_gd ?_ | refine kp_if ?_ ?_ | refine kq_if ?_ ?_ | refine kp_some (by first | assumption | (simp only [sF_pi, sF_pl, sF_ai, sF_al, sG_pi, sG_pl, sG_ai, sG_al, sI_pi, sI_pl, sI_al, sI_ai1, sI_ai2, sJ_pi, sJ_pl, sJ_ai, sJ_al1, sJ_al2, Nat.reduceEqDiff, if_true, if_false, ne_eq, not_false_eq_true, ite_true, ite_false]; assumption)) | refine kq_some (by first | assumption | (simp only [sF_pi, sF_pl, sF_ai, sF_al, sG_pi, sG_pl, sG_ai, sG_al, sI_pi, sI_pl, sI_al, sI_ai1, sI_ai2, sJ_pi, sJ_pl, sJ_ai, sJ_al1, sJ_al2, Nat.reduceEqDiff, if_true, if_false, ne_eq, not_false_eq_true, ite_true, ite_false]; assumption)) | refine kp_bd (k_put (by first | assumption | (simp only [sF_pi, sF_pl, sF_ai, sF_al, sG_pi, sG_pl, sG_ai, sG_al, sI_pi, sI_pl, sI_al, sI_ai1, sI_ai2, sJ_pi, sJ_pl, sJ_ai, sJ_al1, sJ_al2, Nat.reduceEqDiff, if_true, if_false, ne_eq, not_false_eq_true, ite_true, ite_false]; assumption))) (fun z hz => ?_)))
  all_goals exact k_pn31 _ _ _ _ _ h
theorem k_putNumber {N : Nat} {v : Int32} {a : Int64} {μ : mS} (h : sF μ 227 = v) : kp v (mm_putNumber N μ a) := by
  simp only [mm_putNumber, lt]
  exact kp_if (k_pn12 h) (kp_bd (k_put h) (fun z hz => k_pn12 hz))
theorem k_lb9 {N : Nat} {v : Int32} : ∀ (n : Nat) (i j : Int32) (μ : mS), sF μ 227 = v → kq v (mm_lineBelow_9 N n i j μ)
  | 0, _, _, _, _ => kq_none
  | n + 1, i, j, μ, h => by
    simp only [mm_lineBelow_9, mm_lineBelow_45, lt]
    (repeat' (first | exact kp_none | exact kq_none | refine kp_gd ?_ | refine kq_gd ?_ | refine kp_if ?_ ?_ | refine kq_if ?_ ?_ | refine kp_some (by first | assumption | (simp only [sF_pi, sF_pl, sF_ai, sF_al, sG_pi, sG_pl, sG_ai, sG_al, sI_pi, sI_pl, sI_al, sI_ai1, sI_ai2, sJ_pi, sJ_pl, sJ_ai, sJ_al1, sJ_al2, Nat.reduceEqDiff, if_true, if_false, ne_eq, not_false_eq_true, ite_true, ite_false]; assumption)) | refine kq_some (by first | assumption | (simp only [sF_pi, sF_pl, sF_ai, sF_al, sG_pi, sG_pl, sG_ai, sG_al, sI_pi, sI_pl, sI_al, sI_ai1, sI_ai2, sJ_pi, sJ_pl, sJ_ai, sJ_al1, sJ_al2, Nat.reduceEqDiff, if_true, if_false, ne_eq, not_false_eq_true, ite_true, ite_false]; assumption)) | refine kp_bd (k_put (by first | assumption | (simp only [sF_pi, sF_pl, sF_ai, sF_al, sG_pi, sG_pl, sG_ai, sG_al, sI_pi, sI_pl, sI_al, sI_ai1, sI_ai2, sJ_pi, sJ_pl, sJ_ai, sJ_al1, sJ_al2, Nat.reduceEqDiff, if_true, if_false, ne_eq, not_false_eq_true, ite_true, ite_false]; assumption))) (fun z hz => ?_)))
    all_goals exact k_lb9 n _ _ _ h
theorem k_lineBelow {N : Nat} {v a : Int32} {μ : mS} (h : sF μ 227 = v) : kq v (mm_lineBelow N μ a) := k_lb9 N _ _ μ h
theorem k_lineAtHand {N : Nat} {v : Int32} {μ : mS} (h : sF μ 227 = v) : kq v (mm_lineAtHand N μ) := by
  simp only [mm_lineAtHand]
  exact kq_bdq (k_lineBelow h) (fun z hz => kq_some hz)
theorem k_beginMessage {N : Nat} {v : Int32} {μ : mS} (h : sF μ 227 = v) : kp v (mm_beginMessage N μ) := by
  simp only [mm_beginMessage, mm_beginMessage_32, lt]
  refine kp_bdq (k_lineAtHand (by first | assumption | (simp only [sF_pi, sF_pl, sF_ai, sF_al, sG_pi, sG_pl, sG_ai, sG_al, sI_pi, sI_pl, sI_al, sI_ai1, sI_ai2, sJ_pi, sJ_pl, sJ_ai, sJ_al1, sJ_al2, Nat.reduceEqDiff, if_true, if_false, ne_eq, not_false_eq_true, ite_true, ite_false]; assumption))) (fun z hz => ?_)
  refine kp_if (kp_some hz) (kp_bd (k_putNumber hz) (fun z hz => ?_))
  (repeat' (first | exact kp_none | exact kq_none | refine kp_gd ?_ | refine kq_gd ?_ | refine kp_if ?_ ?_ | refine kq_if ?_ ?_ | refine kp_some (by first | assumption | (simp only [sF_pi, sF_pl, sF_ai, sF_al, sG_pi, sG_pl, sG_ai, sG_al, sI_pi, sI_pl, sI_al, sI_ai1, sI_ai2, sJ_pi, sJ_pl, sJ_ai, sJ_al1, sJ_al2, Nat.reduceEqDiff, if_true, if_false, ne_eq, not_false_eq_true, ite_true, ite_false]; assumption)) | refine kq_some (by first | assumption | (simp only [sF_pi, sF_pl, sF_ai, sF_al, sG_pi, sG_pl, sG_ai, sG_al, sI_pi, sI_pl, sI_al, sI_ai1, sI_ai2, sJ_pi, sJ_pl, sJ_ai, sJ_al1, sJ_al2, Nat.reduceEqDiff, if_true, if_false, ne_eq, not_false_eq_true, ite_true, ite_false]; assumption)) | refine kp_bd (k_put (by first | assumption | (simp only [sF_pi, sF_pl, sF_ai, sF_al, sG_pi, sG_pl, sG_ai, sG_al, sI_pi, sI_pl, sI_al, sI_ai1, sI_ai2, sJ_pi, sJ_pl, sJ_ai, sJ_al1, sJ_al2, Nat.reduceEqDiff, if_true, if_false, ne_eq, not_false_eq_true, ite_true, ite_false]; assumption))) (fun z hz => ?_)))
theorem k_allDead5 {N : Nat} {v : Int32} : ∀ (n : Nat) (i : Int32) (μ : mS), sF μ 227 = v → kp v (mm_allDead_5 N n i μ)
  | 0, _, _, _ => kp_none
  | n + 1, i, μ, h => by
    simp only [mm_allDead_5, lt]
    (repeat' (first | exact kp_none | exact kq_none | refine kp_gd ?_ | refine kq_gd ?_ | refine kp_if ?_ ?_ | refine kq_if ?_ ?_ | refine kp_some (by first | assumption | (simp only [sF_pi, sF_pl, sF_ai, sF_al, sG_pi, sG_pl, sG_ai, sG_al, sI_pi, sI_pl, sI_al, sI_ai1, sI_ai2, sJ_pi, sJ_pl, sJ_ai, sJ_al1, sJ_al2, Nat.reduceEqDiff, if_true, if_false, ne_eq, not_false_eq_true, ite_true, ite_false]; assumption)) | refine kq_some (by first | assumption | (simp only [sF_pi, sF_pl, sF_ai, sF_al, sG_pi, sG_pl, sG_ai, sG_al, sI_pi, sI_pl, sI_al, sI_ai1, sI_ai2, sJ_pi, sJ_pl, sJ_ai, sJ_al1, sJ_al2, Nat.reduceEqDiff, if_true, if_false, ne_eq, not_false_eq_true, ite_true, ite_false]; assumption)) | refine kp_bd (k_put (by first | assumption | (simp only [sF_pi, sF_pl, sF_ai, sF_al, sG_pi, sG_pl, sG_ai, sG_al, sI_pi, sI_pl, sI_al, sI_ai1, sI_ai2, sJ_pi, sJ_pl, sJ_ai, sJ_al1, sJ_al2, Nat.reduceEqDiff, if_true, if_false, ne_eq, not_false_eq_true, ite_true, ite_false]; assumption))) (fun z hz => ?_)))
    all_goals exact k_allDead5 n _ _ (by first | assumption | (simp only [sF_pi, sF_pl, sF_ai, sF_al, sG_pi, sG_pl, sG_ai, sG_al, sI_pi, sI_pl, sI_al, sI_ai1, sI_ai2, sJ_pi, sJ_pl, sJ_ai, sJ_al1, sJ_al2, Nat.reduceEqDiff, if_true, if_false, ne_eq, not_false_eq_true, ite_true, ite_false]; assumption))
theorem k_breakOff {N : Nat} {v a : Int32} {μ : mS} (h : sF μ 227 = v) : kp v (mm_breakOff N μ a) := by
  simp only [mm_breakOff, lt]
  refine kp_if (kp_gd (kp_bdq (k_lineAtHand (by first | assumption | (simp only [sF_pi, sF_pl, sF_ai, sF_al, sG_pi, sG_pl, sG_ai, sG_al, sI_pi, sI_pl, sI_al, sI_ai1, sI_ai2, sJ_pi, sJ_pl, sJ_ai, sJ_al1, sJ_al2, Nat.reduceEqDiff, if_true, if_false, ne_eq, not_false_eq_true, ite_true, ite_false]; assumption))) (fun z hz => ?_))) (kp_some h)
  exact kp_bd (k_allDead5 _ _ _ (by first | assumption | (simp only [sF_pi, sF_pl, sF_ai, sF_al, sG_pi, sG_pl, sG_ai, sG_al, sI_pi, sI_pl, sI_al, sI_ai1, sI_ai2, sJ_pi, sJ_pl, sJ_ai, sJ_al1, sJ_al2, Nat.reduceEqDiff, if_true, if_false, ne_eq, not_false_eq_true, ite_true, ite_false]; assumption))) (fun z hz => kp_some hz)
theorem k_mk57 {N : Nat} {v : Int32} : ∀ (n : Nat) (i j k : Int32) (μ : mS), sF μ 227 = v → kq v (mm_makeString_57 N n i j k μ)
  | 0, _, _, _, _, _ => kq_none
  | n + 1, i, j, k, μ, h => by
    simp only [mm_makeString_57, mm_mix, bd, lt]
    (repeat' (first | exact kp_none | exact kq_none | refine kp_gd ?_ | refine kq_gd ?_ | refine kp_if ?_ ?_ | refine kq_if ?_ ?_ | refine kp_some (by first | assumption | (simp only [sF_pi, sF_pl, sF_ai, sF_al, sG_pi, sG_pl, sG_ai, sG_al, sI_pi, sI_pl, sI_al, sI_ai1, sI_ai2, sJ_pi, sJ_pl, sJ_ai, sJ_al1, sJ_al2, Nat.reduceEqDiff, if_true, if_false, ne_eq, not_false_eq_true, ite_true, ite_false]; assumption)) | refine kq_some (by first | assumption | (simp only [sF_pi, sF_pl, sF_ai, sF_al, sG_pi, sG_pl, sG_ai, sG_al, sI_pi, sI_pl, sI_al, sI_ai1, sI_ai2, sJ_pi, sJ_pl, sJ_ai, sJ_al1, sJ_al2, Nat.reduceEqDiff, if_true, if_false, ne_eq, not_false_eq_true, ite_true, ite_false]; assumption)) | refine kp_bd (k_put (by first | assumption | (simp only [sF_pi, sF_pl, sF_ai, sF_al, sG_pi, sG_pl, sG_ai, sG_al, sI_pi, sI_pl, sI_al, sI_ai1, sI_ai2, sJ_pi, sJ_pl, sJ_ai, sJ_al1, sJ_al2, Nat.reduceEqDiff, if_true, if_false, ne_eq, not_false_eq_true, ite_true, ite_false]; assumption))) (fun z hz => ?_)))
    all_goals exact k_mk57 n _ _ _ _ (by first | assumption | (simp only [sF_pi, sF_pl, sF_ai, sF_al, sG_pi, sG_pl, sG_ai, sG_al, sI_pi, sI_pl, sI_al, sI_ai1, sI_ai2, sJ_pi, sJ_pl, sJ_ai, sJ_al1, sJ_al2, Nat.reduceEqDiff, if_true, if_false, ne_eq, not_false_eq_true, ite_true, ite_false]; assumption))
theorem k_makeString {N : Nat} {v : Int32} {μ : mS} (h : sF μ 227 = v) : kq v (mm_makeString N μ) := by
  simp only [mm_makeString, mm_makeString_21, lt]
  refine kq_if ?_ (kq_if ?_ ?_)
  · exact kq_bd (k_breakOff h) (fun z hz => kq_some hz)
  · exact kq_gd (k_mk57 _ _ _ _ _ (by first | assumption | (simp only [sF_pi, sF_pl, sF_ai, sF_al, sG_pi, sG_pl, sG_ai, sG_al, sI_pi, sI_pl, sI_al, sI_ai1, sI_ai2, sJ_pi, sJ_pl, sJ_ai, sJ_al1, sJ_al2, Nat.reduceEqDiff, if_true, if_false, ne_eq, not_false_eq_true, ite_true, ite_false]; assumption)))
  · exact kq_bd (k_breakOff h) (fun z hz => kq_some hz)
theorem k_push {N : Nat} {v a : Int32} {b : Int64} {μ : mS} (h : sF μ 227 = v) : kp v (mm_push N μ a b) := by
  simp only [mm_push, lt]
  (repeat' (first | exact kp_none | exact kq_none | refine kp_gd ?_ | refine kq_gd ?_ | refine kp_if ?_ ?_ | refine kq_if ?_ ?_ | refine kp_some (by first | assumption | (simp only [sF_pi, sF_pl, sF_ai, sF_al, sG_pi, sG_pl, sG_ai, sG_al, sI_pi, sI_pl, sI_al, sI_ai1, sI_ai2, sJ_pi, sJ_pl, sJ_ai, sJ_al1, sJ_al2, Nat.reduceEqDiff, if_true, if_false, ne_eq, not_false_eq_true, ite_true, ite_false]; assumption)) | refine kq_some (by first | assumption | (simp only [sF_pi, sF_pl, sF_ai, sF_al, sG_pi, sG_pl, sG_ai, sG_al, sI_pi, sI_pl, sI_al, sI_ai1, sI_ai2, sJ_pi, sJ_pl, sJ_ai, sJ_al1, sJ_al2, Nat.reduceEqDiff, if_true, if_false, ne_eq, not_false_eq_true, ite_true, ite_false]; assumption)) | refine kp_bd (k_put (by first | assumption | (simp only [sF_pi, sF_pl, sF_ai, sF_al, sG_pi, sG_pl, sG_ai, sG_al, sI_pi, sI_pl, sI_al, sI_ai1, sI_ai2, sJ_pi, sJ_pl, sJ_ai, sJ_al1, sJ_al2, Nat.reduceEqDiff, if_true, if_false, ne_eq, not_false_eq_true, ite_true, ite_false]; assumption))) (fun z hz => ?_)))
theorem k_giveValue {N : Nat} {v a : Int32} {b : Int64} {μ : mS} (h : sF μ 227 = v) : kp v (mm_giveValue N μ a b) := by
  simp only [mm_giveValue, lt]
  (repeat' (first | exact kp_none | exact kq_none | refine kp_gd ?_ | refine kq_gd ?_ | refine kp_if ?_ ?_ | refine kq_if ?_ ?_ | refine kp_some (by first | assumption | (simp only [sF_pi, sF_pl, sF_ai, sF_al, sG_pi, sG_pl, sG_ai, sG_al, sI_pi, sI_pl, sI_al, sI_ai1, sI_ai2, sJ_pi, sJ_pl, sJ_ai, sJ_al1, sJ_al2, Nat.reduceEqDiff, if_true, if_false, ne_eq, not_false_eq_true, ite_true, ite_false]; assumption)) | refine kq_some (by first | assumption | (simp only [sF_pi, sF_pl, sF_ai, sF_al, sG_pi, sG_pl, sG_ai, sG_al, sI_pi, sI_pl, sI_al, sI_ai1, sI_ai2, sJ_pi, sJ_pl, sJ_ai, sJ_al1, sJ_al2, Nat.reduceEqDiff, if_true, if_false, ne_eq, not_false_eq_true, ite_true, ite_false]; assumption)) | refine kp_bd (k_put (by first | assumption | (simp only [sF_pi, sF_pl, sF_ai, sF_al, sG_pi, sG_pl, sG_ai, sG_al, sI_pi, sI_pl, sI_al, sI_ai1, sI_ai2, sJ_pi, sJ_pl, sJ_ai, sJ_al1, sJ_al2, Nat.reduceEqDiff, if_true, if_false, ne_eq, not_false_eq_true, ite_true, ite_false]; assumption))) (fun z hz => ?_)))
theorem k_giveNothing {N : Nat} {v : Int32} {μ : mS} (h : sF μ 227 = v) : kp v (mm_giveNothing N μ) := by
  simp only [mm_giveNothing, lt]
  (repeat' (first | exact kp_none | exact kq_none | refine kp_gd ?_ | refine kq_gd ?_ | refine kp_if ?_ ?_ | refine kq_if ?_ ?_ | refine kp_some (by first | assumption | (simp only [sF_pi, sF_pl, sF_ai, sF_al, sG_pi, sG_pl, sG_ai, sG_al, sI_pi, sI_pl, sI_al, sI_ai1, sI_ai2, sJ_pi, sJ_pl, sJ_ai, sJ_al1, sJ_al2, Nat.reduceEqDiff, if_true, if_false, ne_eq, not_false_eq_true, ite_true, ite_false]; assumption)) | refine kq_some (by first | assumption | (simp only [sF_pi, sF_pl, sF_ai, sF_al, sG_pi, sG_pl, sG_ai, sG_al, sI_pi, sI_pl, sI_al, sI_ai1, sI_ai2, sJ_pi, sJ_pl, sJ_ai, sJ_al1, sJ_al2, Nat.reduceEqDiff, if_true, if_false, ne_eq, not_false_eq_true, ite_true, ite_false]; assumption)) | refine kp_bd (k_put (by first | assumption | (simp only [sF_pi, sF_pl, sF_ai, sF_al, sG_pi, sG_pl, sG_ai, sG_al, sI_pi, sI_pl, sI_al, sI_ai1, sI_ai2, sJ_pi, sJ_pl, sJ_ai, sJ_al1, sJ_al2, Nat.reduceEqDiff, if_true, if_false, ne_eq, not_false_eq_true, ite_true, ite_false]; assumption))) (fun z hz => ?_)))
theorem k_isTrue {N : Nat} {v a : Int32} {b : Int64} {μ : mS} (h : sF μ 227 = v) : kq v (mm_isTrue N μ a b) := by
  simp only [mm_isTrue, mm_isTrue_15, mm_isTrue_19, mm_isTrue_20, lt]
  (repeat' (first | exact kp_none | exact kq_none | refine kp_gd ?_ | refine kq_gd ?_ | refine kp_if ?_ ?_ | refine kq_if ?_ ?_ | refine kp_some (by first | assumption | (simp only [sF_pi, sF_pl, sF_ai, sF_al, sG_pi, sG_pl, sG_ai, sG_al, sI_pi, sI_pl, sI_al, sI_ai1, sI_ai2, sJ_pi, sJ_pl, sJ_ai, sJ_al1, sJ_al2, Nat.reduceEqDiff, if_true, if_false, ne_eq, not_false_eq_true, ite_true, ite_false]; assumption)) | refine kq_some (by first | assumption | (simp only [sF_pi, sF_pl, sF_ai, sF_al, sG_pi, sG_pl, sG_ai, sG_al, sI_pi, sI_pl, sI_al, sI_ai1, sI_ai2, sJ_pi, sJ_pl, sJ_ai, sJ_al1, sJ_al2, Nat.reduceEqDiff, if_true, if_false, ne_eq, not_false_eq_true, ite_true, ite_false]; assumption)) | refine kp_bd (k_put (by first | assumption | (simp only [sF_pi, sF_pl, sF_ai, sF_al, sG_pi, sG_pl, sG_ai, sG_al, sI_pi, sI_pl, sI_al, sI_ai1, sI_ai2, sJ_pi, sJ_pl, sJ_ai, sJ_al1, sJ_al2, Nat.reduceEqDiff, if_true, if_false, ne_eq, not_false_eq_true, ite_true, ite_false]; assumption))) (fun z hz => ?_)))
theorem k_before6 {N : Nat} {v : Int32} : ∀ (n : Nat) (i : Int32) (b : Int64) (j : Int32) (μ : mS), sF μ 227 = v → kp v (mm_before_6 N n i b j μ)
  | 0, _, _, _, _, _ => kp_none
  | n + 1, i, b, j, μ, h => by
    simp only [mm_before_6, lt]
    (repeat' (first | exact kp_none | exact kq_none | refine kp_gd ?_ | refine kq_gd ?_ | refine kp_if ?_ ?_ | refine kq_if ?_ ?_ | refine kp_some (by first | assumption | (simp only [sF_pi, sF_pl, sF_ai, sF_al, sG_pi, sG_pl, sG_ai, sG_al, sI_pi, sI_pl, sI_al, sI_ai1, sI_ai2, sJ_pi, sJ_pl, sJ_ai, sJ_al1, sJ_al2, Nat.reduceEqDiff, if_true, if_false, ne_eq, not_false_eq_true, ite_true, ite_false]; assumption)) | refine kq_some (by first | assumption | (simp only [sF_pi, sF_pl, sF_ai, sF_al, sG_pi, sG_pl, sG_ai, sG_al, sI_pi, sI_pl, sI_al, sI_ai1, sI_ai2, sJ_pi, sJ_pl, sJ_ai, sJ_al1, sJ_al2, Nat.reduceEqDiff, if_true, if_false, ne_eq, not_false_eq_true, ite_true, ite_false]; assumption)) | refine kp_bd (k_put (by first | assumption | (simp only [sF_pi, sF_pl, sF_ai, sF_al, sG_pi, sG_pl, sG_ai, sG_al, sI_pi, sI_pl, sI_al, sI_ai1, sI_ai2, sJ_pi, sJ_pl, sJ_ai, sJ_al1, sJ_al2, Nat.reduceEqDiff, if_true, if_false, ne_eq, not_false_eq_true, ite_true, ite_false]; assumption))) (fun z hz => ?_)))
    all_goals exact k_before6 n _ _ _ _ (by first | assumption | (simp only [sF_pi, sF_pl, sF_ai, sF_al, sG_pi, sG_pl, sG_ai, sG_al, sI_pi, sI_pl, sI_al, sI_ai1, sI_ai2, sJ_pi, sJ_pl, sJ_ai, sJ_al1, sJ_al2, Nat.reduceEqDiff, if_true, if_false, ne_eq, not_false_eq_true, ite_true, ite_false]; assumption))
theorem k_before {N : Nat} {v a : Int32} {b : Int64} {μ : mS} (h : sF μ 227 = v) : kp v (mm_before N μ a b) := k_before6 N _ _ _ μ h
def kT (T : ty_finish) : Prop := ∀ (v : Int32) (μ : mS), sF μ 227 = v → (∀ a, kp v (T.1 μ a)) ∧ (∀ a b c, kp v (T.2.1 μ a b c)) ∧ (∀ a b, kp v (T.2.2.1 μ a b)) ∧ kp v (T.2.2.2.1 μ) ∧ kp v (T.2.2.2.2 μ)
theorem k_fin244 {N : Nat} {T : ty_finish} {v : Int32} : ∀ (n : Nat) (i j : Int32) (μ : mS), sF μ 227 = v → kp v (mm_finish_244 N T n i j μ)
  | 0, _, _, _, _ => kp_none
  | n + 1, i, j, μ, h => by
    simp only [mm_finish_244, mm_finish_272, mm_finish_292, lt]
    refine kp_if (kp_gd (kp_some (by first | assumption | (simp only [sF_pi, sF_pl, sF_ai, sF_al, sG_pi, sG_pl, sG_ai, sG_al, sI_pi, sI_pl, sI_al, sI_ai1, sI_ai2, sJ_pi, sJ_pl, sJ_ai, sJ_al1, sJ_al2, Nat.reduceEqDiff, if_true, if_false, ne_eq, not_false_eq_true, ite_true, ite_false]; assumption)))) (kp_if ?_ (kp_gd ?_))
    all_goals refine kp_if ?_ (kp_gd ?_)
    all_goals exact kp_bd (k_push h) (fun z hz => k_fin244 n _ _ _ hz)
theorem k_fin173 {N : Nat} {T : ty_finish} {v : Int32} : ∀ (n : Nat) (i : Int32) (μ : mS), sF μ 227 = v → kp v (mm_finish_173 N T n i μ)
  | 0, _, _, _ => kp_none
  | n + 1, i, μ, h => by
    simp only [mm_finish_173, lt]
    (repeat' (first | exact kp_none | exact kq_none | refine kp_gd ?_ | refine kq_gd ?_ | refine kp_if ?_ ?_ | refine kq_if ?_ ?_ | refine kp_some (by first | assumption | (simp only [sF_pi, sF_pl, sF_ai, sF_al, sG_pi, sG_pl, sG_ai, sG_al, sI_pi, sI_pl, sI_al, sI_ai1, sI_ai2, sJ_pi, sJ_pl, sJ_ai, sJ_al1, sJ_al2, Nat.reduceEqDiff, if_true, if_false, ne_eq, not_false_eq_true, ite_true, ite_false]; assumption)) | refine kq_some (by first | assumption | (simp only [sF_pi, sF_pl, sF_ai, sF_al, sG_pi, sG_pl, sG_ai, sG_al, sI_pi, sI_pl, sI_al, sI_ai1, sI_ai2, sJ_pi, sJ_pl, sJ_ai, sJ_al1, sJ_al2, Nat.reduceEqDiff, if_true, if_false, ne_eq, not_false_eq_true, ite_true, ite_false]; assumption)) | refine kp_bd (k_put (by first | assumption | (simp only [sF_pi, sF_pl, sF_ai, sF_al, sG_pi, sG_pl, sG_ai, sG_al, sI_pi, sI_pl, sI_al, sI_ai1, sI_ai2, sJ_pi, sJ_pl, sJ_ai, sJ_al1, sJ_al2, Nat.reduceEqDiff, if_true, if_false, ne_eq, not_false_eq_true, ite_true, ite_false]; assumption))) (fun z hz => ?_)))
    all_goals exact k_fin173 n _ _ (by first | assumption | (simp only [sF_pi, sF_pl, sF_ai, sF_al, sG_pi, sG_pl, sG_ai, sG_al, sI_pi, sI_pl, sI_al, sI_ai1, sI_ai2, sJ_pi, sJ_pl, sJ_ai, sJ_al1, sJ_al2, Nat.reduceEqDiff, if_true, if_false, ne_eq, not_false_eq_true, ite_true, ite_false]; assumption))
theorem k_fin345 {N : Nat} {T : ty_finish} {v a b c : Int32} {μ : mS} (h : sF μ 227 = v) : kp v (mm_finish_345 N T a b c μ) := by
  simp only [mm_finish_345, mm_finish_366, mm_finish_374, lt]
  repeat' refine kp_if ?_ ?_
  all_goals exact kp_bd (k_push (by first | assumption | (simp only [sF_pi, sF_pl, sF_ai, sF_al, sG_pi, sG_pl, sG_ai, sG_al, sI_pi, sI_pl, sI_al, sI_ai1, sI_ai2, sJ_pi, sJ_pl, sJ_ai, sJ_al1, sJ_al2, Nat.reduceEqDiff, if_true, if_false, ne_eq, not_false_eq_true, ite_true, ite_false]; assumption))) (fun z hz => kp_some hz)
theorem k_finish {N : Nat} {T : ty_finish} (hT : kT T) {v a b c : Int32} {μ : mS} (h : sF μ 227 = v) : kp v (mb_finish N T μ a b c) := by
  simp only [mb_finish, mm_finish_344, mm_finish_239, lt]
  refine kp_if (kp_if (kp_if (k_fin244 _ _ _ _ (by first | assumption | (simp only [sF_pi, sF_pl, sF_ai, sF_al, sG_pi, sG_pl, sG_ai, sG_al, sI_pi, sI_pl, sI_al, sI_ai1, sI_ai2, sJ_pi, sJ_pl, sJ_ai, sJ_al1, sJ_al2, Nat.reduceEqDiff, if_true, if_false, ne_eq, not_false_eq_true, ite_true, ite_false]; assumption))) (k_fin244 _ _ _ _ (by first | assumption | (simp only [sF_pi, sF_pl, sF_ai, sF_al, sG_pi, sG_pl, sG_ai, sG_al, sI_pi, sI_pl, sI_al, sI_ai1, sI_ai2, sJ_pi, sJ_pl, sJ_ai, sJ_al1, sJ_al2, Nat.reduceEqDiff, if_true, if_false, ne_eq, not_false_eq_true, ite_true, ite_false]; assumption)))) (kp_if ?_ (kp_if ?_ (kp_if ?_ (kp_if ?_ (kp_if ?_ ?_)))))) ?_
  · refine kp_if (k_fin345 h) (kp_gd (kp_gd (kp_bdq (k_isTrue h) (fun z hz => kp_if (k_fin345 hz) (k_fin345 hz)))))
  · refine kp_if (k_fin345 h) (kp_gd (kp_gd (kp_bdq (k_isTrue h) (fun z hz => kp_if (k_fin345 hz) (k_fin345 hz)))))
  · refine kp_bd (k_before (by first | assumption | (simp only [sF_pi, sF_pl, sF_ai, sF_al, sG_pi, sG_pl, sG_ai, sG_al, sI_pi, sI_pl, sI_al, sI_ai1, sI_ai2, sJ_pi, sJ_pl, sJ_ai, sJ_al1, sJ_al2, Nat.reduceEqDiff, if_true, if_false, ne_eq, not_false_eq_true, ite_true, ite_false]; assumption))) (fun z hz => kp_gd (kp_gd (kp_gd (kp_bd ((hT v z hz).2.1 _ _ _) (fun y hy => kp_some hy)))))
  · refine kp_gd (kp_gd (kp_gd (kp_bd ((hT v _ (by first | assumption | (simp only [sF_pi, sF_pl, sF_ai, sF_al, sG_pi, sG_pl, sG_ai, sG_al, sI_pi, sI_pl, sI_al, sI_ai1, sI_ai2, sJ_pi, sJ_pl, sJ_ai, sJ_al1, sJ_al2, Nat.reduceEqDiff, if_true, if_false, ne_eq, not_false_eq_true, ite_true, ite_false]; assumption))).2.2.2.2) (fun y hy => kp_some hy))))
  · refine kp_gd (k_fin173 _ _ _ (by first | assumption | (simp only [sF_pi, sF_pl, sF_ai, sF_al, sG_pi, sG_pl, sG_ai, sG_al, sI_pi, sI_pl, sI_al, sI_ai1, sI_ai2, sJ_pi, sJ_pl, sJ_ai, sJ_al1, sJ_al2, Nat.reduceEqDiff, if_true, if_false, ne_eq, not_false_eq_true, ite_true, ite_false]; assumption)))
  · refine kp_if (k_fin345 h) (kp_gd (kp_gd (kp_bdq (k_isTrue h) (fun z hz => kp_if (k_fin345 hz) (k_fin345 hz)))))
  · exact kp_bd ((hT v μ h).1 _) (fun y hy => kp_some hy)
theorem k_raise39 {N : Nat} {T : ty_finish} (hT : kT T) {v a j : Int32} {b : Int64} {r0 : Int32 → Int64 → mS → Option mS} (hr : ∀ a b μ, sF μ 227 = v → kp v (r0 a b μ)) {μ : mS} (h : sF μ 227 = v) : kp v (mm_raise_39 N T r0 a b j μ) := by
  simp only [mm_raise_39, lt]
  refine kp_gd (kp_if (kp_if ?_ ?_) ?_)
  · refine kp_bdq (k_lineAtHand h) (fun z hz => ?_)
    (repeat' (first | exact kp_none | exact kq_none | refine kp_gd ?_ | refine kq_gd ?_ | refine kp_if ?_ ?_ | refine kq_if ?_ ?_ | refine kp_some (by first | assumption | (simp only [sF_pi, sF_pl, sF_ai, sF_al, sG_pi, sG_pl, sG_ai, sG_al, sI_pi, sI_pl, sI_al, sI_ai1, sI_ai2, sJ_pi, sJ_pl, sJ_ai, sJ_al1, sJ_al2, Nat.reduceEqDiff, if_true, if_false, ne_eq, not_false_eq_true, ite_true, ite_false]; assumption)) | refine kq_some (by first | assumption | (simp only [sF_pi, sF_pl, sF_ai, sF_al, sG_pi, sG_pl, sG_ai, sG_al, sI_pi, sI_pl, sI_al, sI_ai1, sI_ai2, sJ_pi, sJ_pl, sJ_ai, sJ_al1, sJ_al2, Nat.reduceEqDiff, if_true, if_false, ne_eq, not_false_eq_true, ite_true, ite_false]; assumption)) | refine kp_bd (k_put (by first | assumption | (simp only [sF_pi, sF_pl, sF_ai, sF_al, sG_pi, sG_pl, sG_ai, sG_al, sI_pi, sI_pl, sI_al, sI_ai1, sI_ai2, sJ_pi, sJ_pl, sJ_ai, sJ_al1, sJ_al2, Nat.reduceEqDiff, if_true, if_false, ne_eq, not_false_eq_true, ite_true, ite_false]; assumption))) (fun z hz => ?_)))
  · repeat' refine kp_gd ?_
    refine kp_if ?_ ?_
    · refine kp_bd (k_giveNothing (by first | assumption | (simp only [sF_pi, sF_pl, sF_ai, sF_al, sG_pi, sG_pl, sG_ai, sG_al, sI_pi, sI_pl, sI_al, sI_ai1, sI_ai2, sJ_pi, sJ_pl, sJ_ai, sJ_al1, sJ_al2, Nat.reduceEqDiff, if_true, if_false, ne_eq, not_false_eq_true, ite_true, ite_false]; assumption))) (fun z hz => kp_bd (k_giveValue hz) (fun z hz => kp_bd (k_giveValue hz) (fun z hz => kp_gd (kp_gd (kp_gd (kp_bd ((hT v z hz).2.1 _ _ _) (fun y hy => kp_some hy)))))))
    · exact hr _ _ _ (by first | assumption | (simp only [sF_pi, sF_pl, sF_ai, sF_al, sG_pi, sG_pl, sG_ai, sG_al, sI_pi, sI_pl, sI_al, sI_ai1, sI_ai2, sJ_pi, sJ_pl, sJ_ai, sJ_al1, sJ_al2, Nat.reduceEqDiff, if_true, if_false, ne_eq, not_false_eq_true, ite_true, ite_false]; assumption))
  · refine kp_bd (k_giveNothing (by first | assumption | (simp only [sF_pi, sF_pl, sF_ai, sF_al, sG_pi, sG_pl, sG_ai, sG_al, sI_pi, sI_pl, sI_al, sI_ai1, sI_ai2, sJ_pi, sJ_pl, sJ_ai, sJ_al1, sJ_al2, Nat.reduceEqDiff, if_true, if_false, ne_eq, not_false_eq_true, ite_true, ite_false]; assumption))) (fun z hz => kp_bd (k_giveValue hz) (fun z hz => kp_bd (k_giveValue hz) (fun z hz => kp_gd (kp_gd (kp_gd (kp_bd ((hT v z hz).2.1 _ _ _) (fun y hy => kp_some hy)))))))
theorem k_raise8 {N : Nat} {T : ty_finish} (hT : kT T) {v a : Int32} {b : Int64} {r0 : Int32 → Int64 → mS → Option mS} (hr : ∀ a b μ, sF μ 227 = v → kp v (r0 a b μ)) : ∀ (n : Nat) (j : Int32) (μ : mS), sF μ 227 = v → kp v (mm_raise_8 N T r0 n a b j μ)
  | 0, _, _, _ => kp_none
  | n + 1, j, μ, h => by
    simp only [mm_raise_8, lt]
    exact kp_gd (kp_if (k_raise39 hT hr h) (kp_gd (kp_if (k_raise39 hT hr h) (k_raise8 hT hr n _ _ h))))
theorem k_raise0 {N : Nat} {T : ty_finish} (hT : kT T) {v : Int32} : ∀ (n : Nat) (a : Int32) (b : Int64) (μ : mS), sF μ 227 = v → kp v (mm_raise_0 N T n a b μ)
  | 0, _, _, _, _ => kp_none
  | n + 1, a, b, μ, h => by
    simp only [mm_raise_0, lt]
    exact k_raise8 hT (k_raise0 hT n) _ _ _ h
theorem k_rc {N : Nat} : ∀ dd, kT (rc_finish N dd)
  | 0 => fun v μ h => ⟨fun _ => kp_none, fun _ _ _ => kp_none, fun _ _ => kp_none, kp_none, kp_none⟩
  | d + 1 => fun v μ h => by
    have hT := k_rc (N := N) d
    refine ⟨fun a => ?_, fun a b c => k_finish hT h, fun a b => k_raise0 hT _ _ _ _ h, ?_, ?_⟩
    · simp only [rc_finish, mb_fault_2]
      exact kp_bd (k_beginMessage h) (fun z hz => kp_bd (k_putText hz) (fun z hz => kp_bd ((hT v z hz).2.2.2.1) (fun y hy => kp_some hy)))
    · simp only [rc_finish, mb_raiseMessage, mm_raiseMessage_16]
      exact kp_bdq (k_makeString h) (fun z hz => kp_if (kp_some hz) (kp_bd ((hT v z.2 hz).2.2.1 _ _) (fun y hy => kp_some hy)))
    · simp only [rc_finish, mb_toResumer, mm_toResumer_39, lt]
      refine kp_gd (kp_if ?_ ?_)
      · exact kp_bd (k_before (by first | assumption | (simp only [sF_pi, sF_pl, sF_ai, sF_al, sG_pi, sG_pl, sG_ai, sG_al, sI_pi, sI_pl, sI_al, sI_ai1, sI_ai2, sJ_pi, sJ_pl, sJ_ai, sJ_al1, sJ_al2, Nat.reduceEqDiff, if_true, if_false, ne_eq, not_false_eq_true, ite_true, ite_false]; assumption))) (fun z hz => kp_gd (kp_gd (kp_gd (kp_bd ((hT v z hz).2.1 _ _ _) (fun y hy => kp_some hy)))))
      · exact kp_gd (kp_gd (kp_gd (kp_bd ((hT v _ (by first | assumption | (simp only [sF_pi, sF_pl, sF_ai, sF_al, sG_pi, sG_pl, sG_ai, sG_al, sI_pi, sI_pl, sI_al, sI_ai1, sI_ai2, sJ_pi, sJ_pl, sJ_ai, sJ_al1, sJ_al2, Nat.reduceEqDiff, if_true, if_false, ne_eq, not_false_eq_true, ite_true, ite_false]; assumption))).2.1 _ _ _) (fun y hy => kp_some hy))))
theorem k_fault {N t : Nat} {v : Int32} {μ : mS} (h : sF μ 227 = v) : kp v (mm_fault_2 N μ t) := (k_rc 450 v μ h).1 t
theorem k_raise {N : Nat} {v a : Int32} {b : Int64} {μ : mS} (h : sF μ 227 = v) : kp v (mm_raise N μ a b) := (k_rc 450 v μ h).2.2.1 a b
theorem k_raiseMessage {N : Nat} {v : Int32} {μ : mS} (h : sF μ 227 = v) : kp v (mm_raiseMessage N μ) := (k_rc 450 v μ h).2.2.2.1
/-- a run that is broken off -/
theorem o_allDead5 {N k : Nat} (hk : k ≠ 143 ∧ k ≠ 154 ∧ k ≠ 155) : ∀ (n : Nat) (i : Int32) (μ τ : mS), mm_allDead_5 N n i μ = some τ → sF τ k = sF μ k
  | 0, _, _, _, h => nomatch h
  | n + 1, i, μ, τ, h => by
    simp only [mm_allDead_5, lt] at h
    by_cases c : i = 120
    · rw [if_pos c] at h; cases h; simp only [sF_pi, if_neg hk.1, if_neg hk.2.1, if_neg hk.2.2]
    · rw [if_neg c] at h
      rw [o_allDead5 hk n _ _ τ (gd_s (gd_s h))]
      simp only [sF_pi, sF_pl, sF_ai, sF_al, sG_pi, sG_pl, sG_ai, sG_al, sI_pi, sI_pl, sI_al, sI_ai1, sI_ai2, sJ_pi, sJ_pl, sJ_ai, sJ_al1, sJ_al2, Nat.reduceEqDiff, if_true, if_false, ne_eq, not_false_eq_true, ite_true, ite_false]
theorem o_lb9 {N : Nat} : ∀ (n : Nat) (i j : Int32) (μ : mS) (z : Int32 × mS), mm_lineBelow_9 N n i j μ = some z → z.2 = μ
  | 0, _, _, _, _, h => nomatch h
  | n + 1, i, j, μ, z, h => by
    simp only [mm_lineBelow_9, mm_lineBelow_45, lt] at h
    replace h := gd_s h
    split at h
    · cases h; rfl
    · replace h := gd_s h
      split at h
      · split at h
        · replace h := gd_s h; cases h; rfl
        · exact o_lb9 n _ _ _ _ h
      · exact o_lb9 n _ _ _ _ h
theorem o_lineAtHand {N : Nat} {μ : mS} {z : Int32 × mS} (h : mm_lineAtHand N μ = some z) : z.2 = μ := by
  simp only [mm_lineAtHand, mm_lineBelow, lt] at h
  cases c : mm_lineBelow_9 N N 0 (μ.1 154 - 1) μ with
  | none => rw [c] at h; exact nomatch h
  | some y =>
    rw [c] at h
    simp only [bd] at h
    cases h
    exact o_lb9 _ _ _ _ _ c
theorem o_breakOff {N : Nat} {a : Int32} {μ τ : mS} (h : mm_breakOff N μ a = some τ) : sF τ 178 ≠ 0 := by
  simp only [mm_breakOff, lt, sF_fold] at h
  by_cases c : sF μ 178 = 0
  · rw [if_pos c] at h
    replace h := gd_s h
    cases e : mm_lineAtHand N (md_pi (md_pi μ 178 1) 179 a) with
    | none => rw [e] at h; exact nomatch h
    | some y =>
      rw [e] at h
      simp only [bd] at h
      cases e' : mm_allDead N (md_pi y.2 181 y.1) with
      | none => rw [e'] at h; exact nomatch h
      | some x =>
        rw [e'] at h
        cases h
        simp only [mm_allDead, lt] at e'
        rw [o_allDead5 (by decide) _ _ _ _ e', o_lineAtHand e]
        simp only [sF_pi, sF_pl, sF_ai, sF_al, sG_pi, sG_pl, sG_ai, sG_al, sI_pi, sI_pl, sI_al, sI_ai1, sI_ai2, sJ_pi, sJ_pl, sJ_ai, sJ_al1, sJ_al2, Nat.reduceEqDiff, if_true, if_false, ne_eq, not_false_eq_true, ite_true, ite_false]
        decide
  · rw [if_neg c] at h; cases h; exact c
theorem o_190 {N : Nat} {a : Int32} {μ τ : mS} (h : mm_breakOff N μ a = some τ) : sF τ 190 = sF μ 190 := by
  simp only [mm_breakOff, lt, sF_fold] at h
  by_cases c : sF μ 178 = 0
  · rw [if_pos c] at h
    replace h := gd_s h
    cases e : mm_lineAtHand N (md_pi (md_pi μ 178 1) 179 a) with
    | none => rw [e] at h; exact nomatch h
    | some y =>
      rw [e] at h
      simp only [bd] at h
      cases e' : mm_allDead N (md_pi y.2 181 y.1) with
      | none => rw [e'] at h; exact nomatch h
      | some x =>
        rw [e'] at h
        cases h
        simp only [mm_allDead, lt] at e'
        rw [o_allDead5 (by decide) _ _ _ _ e', o_lineAtHand e]
        simp only [sF_pi, sF_pl, sF_ai, sF_al, sG_pi, sG_pl, sG_ai, sG_al, sI_pi, sI_pl, sI_al, sI_ai1, sI_ai2, sJ_pi, sJ_pl, sJ_ai, sJ_al1, sJ_al2, Nat.reduceEqDiff, if_true, if_false, ne_eq, not_false_eq_true, ite_true, ite_false]
  · rw [if_neg c] at h; cases h; rfl
