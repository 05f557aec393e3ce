/-! LAYER 2: the system's collector: coroutines -/
theorem cz2 {N : Nat} {σ : mS} : ∀ (j : Nat) (v : Int32) (τ : mS), 1 ≤ v → v ≤ 121 → (121 - v.toInt).toNat < j → m_fr (fun k => k == 366) σ τ → (∀ x, 1 ≤ x → x < v → sI τ 366 x = 0) → ∃ τ', xx5_sweep_b2 N j v τ = xx5_sweep_b26 N N (sF τ' 337) τ' ∧ m_fr (fun k => k == 366) σ τ' ∧ (∀ x, 1 ≤ x → x < 121 → sI τ' 366 x = 0) := by
  intro j
  induction j with
  | zero => intro v τ _ _ h; omega
  | succ j ih =>
    intro v τ h0 h1 hj fr z
    rw [xx5_sweep_b2]
    by_cases c : 120 < v
    · have e : v = 121 := by clear z ih; lia
      subst e
      rw [if_pos c]
      exact ⟨τ, rfl, fr, z⟩
    · have v0 : 0 ≤ v ∧ v < 121 := ⟨by clear z ih; lia, by clear z ih; lia⟩
      have vi : (v + 1).toInt = v.toInt + 1 := tI_inc v0.1 (by clear z ih; lia)
      have vl := tI_lt.mp v0.2
      rw [show (121 : Int32).toInt = 121 from rfl] at vl
      rw [if_neg c, gd_in (by decide) v0.1 v0.2, nar_b0]
      simp only [lt]
      refine ih (v + 1) _ (by clear z ih; lia) (by clear z ih; lia) (by omega) (mf_ai fr rfl) (fun x x0 x1 => ?_)
      rw [sI_ai v0.1 (Int32.le_trans (by decide) x0)]
      by_cases e : x = v
      · rw [if_pos ⟨rfl, e⟩]
      · rw [if_neg (fun q => e q.2)]
        exact z x x0 (by clear z ih; lia)
theorem cz26 {N : Nat} {σ : mS} {fb : List Int32} (hr : ∀ x, x ∈ fb → 1 ≤ x ∧ x ≤ 120) : ∀ (R P : List Int32) (n : Nat) (v : Int32) (τ : mS), fb = P ++ R → R.length < n → seg (sI σ 336) v R (-1) → m_fr (fun k => k == 366) σ τ → (∀ x, 1 ≤ x → x < 121 → sI τ 366 x = if x ∈ P then 1 else 0) → ∃ τ', xx5_sweep_b26 N n v τ = xx5_sweep_b50 N N 1 τ' ∧ m_fr (fun k => k == 366) σ τ' ∧ (∀ x, 1 ≤ x → x < 121 → sI τ' 366 x = if x ∈ fb then 1 else 0)
  | [], P, n, v, τ, he, hn, sg, fr, h => by
    obtain ⟨n, rfl⟩ : ∃ j, n = j + 1 := ⟨n - 1, by simp at hn; omega⟩
    have e : v = -1 := sg
    subst e
    rw [List.append_nil] at he
    rw [xx5_sweep_b26, if_pos rfl]
    exact ⟨τ, rfl, fr, by rw [he]; exact h⟩
  | x :: R, P, n, v, τ, he, hn, sg, fr, h => by
    obtain ⟨n, rfl⟩ : ∃ j, n = j + 1 := ⟨n - 1, by simp at hn; omega⟩
    obtain ⟨rfl, sg⟩ := sg
    obtain ⟨v0, v1⟩ := hr v (by rw [he]; simp)
    have w0 : 0 ≤ v ∧ v < 121 := ⟨by clear h; lia, by clear h; lia⟩
    have e235 : sI (md_ai τ 366 v.toNatClampNeg 1) 336 v = sI σ 336 v := by rw [sI_ai1 (by decide)]; exact mf_I fr rfl
    rw [xx5_sweep_b26, if_neg (fun e => by rw [e] at v0; exact absurd v0 (by decide)), gd_in (by decide) w0.1 w0.2, nar_b1]
    simp only [lt, sI_fold]
    rw [gd_in (by decide) w0.1 w0.2, e235]
    refine cz26 hr R (P ++ [v]) n (sI σ 336 v) _ (by rw [he]; simp) (by simp at hn; omega) sg (mf_ai fr rfl) (fun y y0 y1 => ?_)
    rw [sI_ai w0.1 (Int32.le_trans (by decide) y0), h y y0 y1]
    by_cases e : y = v
    · rw [if_pos ⟨rfl, e⟩, if_pos (mem_sn.mpr (.inr e))]
    · rw [if_neg (fun q => e q.2)]
      by_cases m : y ∈ P
      · rw [if_pos m, if_pos (mem_sn.mpr (.inl m))]
      · rw [if_neg m, if_neg (fun q => (mem_sn.mp q).elim m e)]
def tcF (k : Nat) : Bool := kK k || [336, 337, 338, 340, 366].contains k
def fD (xf : Int32 → List Int32) (D : List Int32) : Int32 → List Int32 := fun c => if c ∈ D then [] else xf c
def TCI (σ τ : mS) (w : WD) (xf : Int32 → List Int32) (fcs : List Int32) (v : Int32) (D : List Int32) : Prop := m_fr tcF σ τ ∧ XF w (fD xf D) τ ∧ seg (sI τ 336) (sF τ 337) (D ++ fcs) (-1) ∧ D.Nodup ∧ (∀ x, x ∈ D ↔ 1 ≤ x ∧ x < v ∧ x ∈ (wC w).map Prod.fst ∧ sI σ 340 x = 0) ∧ (sF τ 338).toInt = (wC w).length - D.length ∧ (∀ x, 1 ≤ x → x < 121 → sI τ 366 x = if x ∈ fcs then 1 else 0) ∧ (∀ x, 1 ≤ x → x < v → sI τ 340 x = 0) ∧ (∀ x, v ≤ x → x < 121 → sI τ 340 x = sI σ 340 x) ∧ (∀ x, 0 ≤ x → sI τ 323 x = if x ∈ D then 3 else sI σ 323 x) ∧ (∀ x, 0 ≤ x → sI τ 324 x = if x ∈ D then 0 else sI σ 324 x) ∧ sF τ 339 = sF σ 339 ∧ (sF τ 358).toInt = (sF σ 358).toInt - ((D.map (fun c => (xf c).length)).sum : Int)
theorem tcc_1 {v : Int32} (h0 : 1 ≤ v) (h1 : ¬ 120 < v) : (0 ≤ v ∧ v < 121) ∧ (1 ≤ v + 1 ∧ v + 1 ≤ 121) ∧ (v + 1).toInt = v.toInt + 1 ∧ v.toInt < 121 ∧ (∀ d, d < v + 1 ↔ d < v ∨ d = v) ∧ (∀ d, v + 1 ≤ d → v ≤ d ∧ d ≠ v) := by
  refine ⟨⟨by lia, by lia⟩, ⟨by lia, by lia⟩, tI_inc (by lia) (by lia), ?_, fun d => ⟨fun q => by lia, fun q => by rcases q with q | q <;> lia⟩, fun d q => ⟨by lia, fun e => by lia⟩⟩
  have : v < 121 := by lia
  rw [tI_lt] at this
  exact this
theorem sum_mem {f : Int32 → Nat} {c : Int32} {l : List Int32} (h : c ∈ l) : f c ≤ (l.map f).sum := by
  induction l with
  | nil => exact absurd h (by simp)
  | cons a l ih =>
    rw [List.map_cons, List.sum_cons]
    rcases List.mem_cons.mp h with q | q
    · rw [q]; omega
    · have := ih q; omega
theorem XF_ai {w : WD} {xf : Int32 → List Int32} {σ τ : mS} {P : Nat → Bool} (H : XF w xf σ) (fr : m_fr P σ τ) (h : ∀ k, k = 326 ∨ k = 347 ∨ k = 349 ∨ (356 ≤ k ∧ k ≤ 363) → P k = false) : XF w xf τ := by
  obtain ⟨fc, bl, h1, h2, h3, h4, h5, ⟨b1, b2, b3, b4⟩, h7, h8⟩ := H
  have e356 : sI τ 356 = sI σ 356 := by funext i; exact mf_I fr (h _ (by omega))
  have e359 : sI τ 359 = sI σ 359 := by funext i; exact mf_I fr (h _ (by omega))
  have e360 : sI τ 360 = sI σ 360 := by funext i; exact mf_I fr (h _ (by omega))
  have e347 : sI τ 347 = sI σ 347 := by funext i; exact mf_I fr (h _ (by omega))
  have e349 : sI τ 349 = sI σ 349 := by funext i; exact mf_I fr (h _ (by omega))
  refine ⟨fc, bl, by rw [e356, mf_F fr (h 357 (by omega))]; exact h1, fun c hc => by rw [e356, mf_I fr (h 326 (by omega))]; exact h2 c hc, h3, h4, h5, ⟨by rw [e359, mf_F fr (h 361 (by omega))]; exact b1, by rw [e360, mf_F fr (h 362 (by omega))]; exact b2, by rw [e347, e349, mf_F fr (h 363 (by omega))]; exact b3, by rw [mf_F fr (h 363 (by omega))]; exact b4⟩, h7, fun f => by rw [e349]; exact h8 f⟩
theorem fD_c {xf : Int32 → List Int32} {D : List Int32} {v : Int32} : fU (fD xf D) v [] = fD xf (v :: D) := by
  funext c
  simp only [fU, fD, List.mem_cons]
  by_cases e : c = v
  · rw [if_pos e, if_pos (.inl e)]
  · rw [if_neg e]
    by_cases m : c ∈ D
    · rw [if_pos m, if_pos (.inr m)]
    · rw [if_neg m, if_neg (fun q => q.elim e m)]
theorem cz50 {N : Nat} (hN : BIG ≤ N) {σ : mS} {w : WD} {xf : Int32 → List Int32} {fcs : List Int32} (nd : (fcs ++ (wC w).map Prod.fst).Nodup) (hr : ∀ c, c ∈ fcs ++ (wC w).map Prod.fst → 1 ≤ c ∧ c ≤ 120) (hl : (fcs ++ (wC w).map Prod.fst).length = 120) (hx : ∀ c, c ∈ (wC w).map Prod.fst → (xf c).length ≤ 202) (h358 : 0 ≤ sF σ 358 ∧ sF σ 358 ≤ 202) : ∀ (j : Nat) (v : Int32) (τ : mS) (D : List Int32), TCI σ τ w xf fcs v D → 1 ≤ v → v ≤ 121 → (121 - v.toInt).toNat < j → ∃ τ' D', xx5_sweep_b50 N j v τ = some τ' ∧ TCI σ τ' w xf fcs 121 D' := by
  obtain ⟨nf, nw, dj⟩ := List.nodup_append.mp nd
  have hl' := hl
  rw [List.length_append, List.length_map] at hl'
  intro j
  induction j with
  | zero => intro v τ D _ _ _ h; omega
  | succ j ih =>
    intro v τ D S h0 h1 hj
    rw [xx5_sweep_b50]
    by_cases c : 120 < v
    · have e : v = 121 := by clear S ih hx hr; lia
      subst e
      rw [if_pos c]
      exact ⟨τ, D, rfl, S⟩
    · obtain ⟨r1, r2, r3, r4, r5, r6⟩ := tcc_1 h0 c
      obtain ⟨a1, a2, a3, a4, a5, a6, a7, a8, a9, b1, b2, b3, b4⟩ := S
      have e366 := a7 v h0 r1.2
      have e340 := a9 v (Int32.le_refl _) r1.2
      have nb : v ∈ (wC w).map Prod.fst ↔ v ∉ fcs := by
        refine ⟨fun m q => dj v q v m rfl, fun m => ?_⟩
        refine Classical.byContradiction (fun q => ?_)
        have nd2 : (v :: (fcs ++ (wC w).map Prod.fst)).Nodup := List.nodup_cons.mpr ⟨fun w => (List.mem_append.mp w).elim m q, nd⟩
        have nd3 : (0 :: v :: (fcs ++ (wC w).map Prod.fst)).Nodup := List.nodup_cons.mpr ⟨fun z => by
          rcases List.mem_cons.mp z with z | z
          · rw [← z] at h0; exact absurd h0 (by decide)
          · exact absurd (hr 0 z).1 (by decide), nd2⟩
        have := nd_M (M := 121) nd3 (fun x hx => by
          rcases List.mem_cons.mp hx with z | z
          · rw [z]; exact ⟨by decide, by decide⟩
          · rcases List.mem_cons.mp z with z | z
            · rw [z]; exact r1
            · have q := hr x z
              clear ih hx hr
              exact ⟨by lia, by lia⟩)
        rw [show (121 : Int32).toInt = 121 from rfl] at this
        simp only [List.length_cons, List.length_append, List.length_map] at this
        omega
      -- one that stays
      have stay : (v ∈ (wC w).map Prod.fst → sI σ 340 v ≠ 0) → ∃ τ' D', xx5_sweep_b50 N j (v + 1) (md_ai τ 340 v.toNatClampNeg 0) = some τ' ∧ TCI σ τ' w xf fcs 121 D' := fun hs => by
        have fr : m_fr (fun k => k == 340) τ (md_ai τ 340 v.toNatClampNeg 0) := mf_ai mf_rfl rfl
        refine ih (v + 1) _ D ⟨mf_ai a1 (by decide), XF_ai a2 fr (fun k hk => by simp only [beq_eq_false_iff_ne]; omega), ?_, a4, fun x => ?_, a6, fun x x0 x1 => ?_, fun x x0 x1 => ?_, fun x x0 x1 => ?_, fun x x0 => ?_, fun x x0 => ?_, b3, b4⟩ r2.1 r2.2 (by omega)
        · simp (disch := decide) only [sF_pi, sF_pl, sF_ai, sF_al, sG_pi, sG_pl, sG_ai, sG_al, sI_pi, sI_pl, sI_al, sI_ai1, sI_ai2, sJ_pi, sJ_pl, sJ_ai, sJ_al1, sJ_al2, Nat.reduceEqDiff, if_true, if_false, ne_eq, not_false_eq_true, ite_true, ite_false]
          exact seg_congr a3 (fun x _ => by simp (disch := decide) only [sF_pi, sF_pl, sF_ai, sF_al, sG_pi, sG_pl, sG_ai, sG_al, sI_pi, sI_pl, sI_al, sI_ai1, sI_ai2, sJ_pi, sJ_pl, sJ_ai, sJ_al1, sJ_al2, Nat.reduceEqDiff, if_true, if_false, ne_eq, not_false_eq_true, ite_true, ite_false])
        · rw [a5 x, r5 x]
          refine ⟨fun ⟨q1, q2, q3⟩ => ⟨q1, .inl q2, q3⟩, fun ⟨q1, q2, q3, q4⟩ => ⟨q1, ?_, q3, q4⟩⟩
          rcases q2 with q | q
          · exact q
          · rw [q] at q3 q4
            exact absurd q4 (hs q3)
        · rw [sI_ai1 (by decide)]; exact a7 x x0 x1
        · rw [sI_ai r1.1 (Int32.le_trans (by decide) x0)]
          by_cases e : x = v
          · rw [if_pos ⟨rfl, e⟩]
          · rw [if_neg (fun q => e q.2)]
            exact a8 x x0 (((r5 x).mp x1).resolve_right e)
        · have q := r6 x x0
          rw [sI_ai r1.1 (Int32.le_trans r1.1 q.1), if_neg (fun w => q.2 w.2)]
          exact a9 x q.1 x1
        · rw [sI_ai1 (by decide)]; exact b1 x x0
        · rw [sI_ai1 (by decide)]; exact b2 x x0
      rw [if_neg c, gd_in (by decide) r1.1 r1.2]
      simp only [lt, sF_fold, sI_fold]
      rw [e366]
      by_cases m : v ∈ fcs
      · rw [if_pos m, if_neg (by decide), xx5_sweep_b104, gd_in (by decide) r1.1 r1.2, nar_b0]
        exact stay (fun w => absurd m (nb.mp w))
      · have vw := nb.mpr m
        rw [if_neg m, if_pos rfl, gd_in (by decide) r1.1 r1.2, e340]
        by_cases z : sI σ 340 v = 0
        · have nm : v ∉ D := fun q => absurd ((a5 v).mp q).2.1 Int32.lt_irrefl
          have vc : v ∈ cX w := List.mem_cons_of_mem _ vw
          have nc : (cX w).Nodup := List.nodup_cons.mpr ⟨fun q => absurd (hr 0 (List.mem_append.mpr (.inr q))).1 (by decide), nw⟩
          have hp : ∀ e, e ∈ cX w → 0 ≤ e := fun e he => by
            rcases List.mem_cons.mp he with q | q
            · rw [q]; decide
            · exact Int32.le_trans (by decide) (hr e (List.mem_append.mpr (.inr q))).1
          obtain ⟨τ1, k1, k2, k3, k4, k5, k6, k7⟩ := kill_x hN a2 nc vc hp r1.2
          rw [fD_c] at k2
          have xv : fD xf D v = xf v := by simp only [fD]; rw [if_neg nm]
          rw [xv] at k4
          have fr2 : m_fr (fun k => [336, 337, 338, 340].contains k) τ1 (md_ai (md_pi (md_pi (md_ai τ1 336 v.toNatClampNeg (sF τ1 337)) 337 v) 338 (sF τ1 338 - 1)) 340 v.toNatClampNeg 0) := mf_ai (mf_pi (mf_pi (mf_ai mf_rfl rfl) rfl) rfl) rfl
          have g336 : ∀ x, 0 ≤ x → sI (md_ai (md_pi (md_pi (md_ai τ1 336 v.toNatClampNeg (sF τ1 337)) 337 v) 338 (sF τ1 338 - 1)) 340 v.toNatClampNeg 0) 336 x = if x = v then sF τ 337 else sI τ 336 x := fun x x0 => by
            rw [sI_ai1 (by decide), sI_pi, sI_pi, sI_ai r1.1 x0, mf_F k3 (k := 337) rfl]
            by_cases e : x = v
            · rw [if_pos ⟨rfl, e⟩, if_pos e]
            · rw [if_neg (fun q => e q.2), if_neg e]; exact mf_I k3 rfl
          have g340 : ∀ x, 0 ≤ x → sI (md_ai (md_pi (md_pi (md_ai τ1 336 v.toNatClampNeg (sF τ1 337)) 337 v) 338 (sF τ1 338 - 1)) 340 v.toNatClampNeg 0) 340 x = if x = v then 0 else sI τ 340 x := fun x x0 => by
            rw [sI_ai r1.1 x0, sI_pi, sI_pi, sI_ai1 (by decide)]
            by_cases e : x = v
            · rw [if_pos ⟨rfl, e⟩, if_pos e]
            · rw [if_neg (fun q => e q.2), if_neg e]; exact mf_I k3 rfl
          have g337 : sF (md_ai (md_pi (md_pi (md_ai τ1 336 v.toNatClampNeg (sF τ1 337)) 337 v) 338 (sF τ1 338 - 1)) 340 v.toNatClampNeg 0) 337 = v := by simp (disch := decide) only [sF_pi, sF_pl, sF_ai, sF_al, sG_pi, sG_pl, sG_ai, sG_al, sI_pi, sI_pl, sI_al, sI_ai1, sI_ai2, sJ_pi, sJ_pl, sJ_ai, sJ_al1, sJ_al2, Nat.reduceEqDiff, if_true, if_false, ne_eq, not_false_eq_true, ite_true, ite_false]
          have g338 : sF (md_ai (md_pi (md_pi (md_ai τ1 336 v.toNatClampNeg (sF τ1 337)) 337 v) 338 (sF τ1 338 - 1)) 340 v.toNatClampNeg 0) 338 = sF τ 338 - 1 := by
            simp (disch := decide) only [sF_pi, sF_pl, sF_ai, sF_al, sG_pi, sG_pl, sG_ai, sG_al, sI_pi, sI_pl, sI_al, sI_ai1, sI_ai2, sJ_pi, sJ_pl, sJ_ai, sJ_al1, sJ_al2, Nat.reduceEqDiff, if_true, if_false, ne_eq, not_false_eq_true, ite_true, ite_false]
            rw [mf_F k3 (k := 338) rfl]
          have st : (bd (xx5_kill N τ v) fun z3 => gd (inB v 121) (xx5_sweep_b104 N (xx5_sweep_b50 N j) v (md_pi (md_pi (md_ai z3 336 v.toNatClampNeg (sF z3 337)) 337 v) 338 (sF (md_pi (md_ai z3 336 v.toNatClampNeg (sF z3 337)) 337 v) 338 - 1)))) = xx5_sweep_b50 N j (v + 1) (md_ai (md_pi (md_pi (md_ai τ1 336 v.toNatClampNeg (sF τ1 337)) 337 v) 338 (sF τ1 338 - 1)) 340 v.toNatClampNeg 0) := by
            rw [k1]
            simp only [bd]
            rw [gd_in (by decide) r1.1 r1.2, xx5_sweep_b104, gd_in (by decide) r1.1 r1.2, nar_b0]
            rfl
          rw [if_pos z, st]
          generalize md_ai (md_pi (md_pi (md_ai τ1 336 v.toNatClampNeg (sF τ1 337)) 337 v) 338 (sF τ1 338 - 1)) 340 v.toNatClampNeg 0 = υ at *
          have ndl : D.length ≤ (wC w).length := by
            have := List.Nodup.length_le_of_subset a4 (l₂ := (wC w).map Prod.fst) (fun x hx => ((a5 x).mp hx).2.2.1)
            rwa [List.length_map] at this
          have one : (1 : Int32).toInt = 1 := rfl
          refine ih (v + 1) υ (v :: D) ⟨mf_tr a1 (mf_tr (mf_mono k3 (fun k hk => (Bool.or_eq_false_iff.mp hk).1)) (mf_mono fr2 (fun k hk => by
            have := (Bool.or_eq_false_iff.mp hk).2
            simp only [List.contains_cons, List.contains_nil, Bool.or_eq_false_iff, beq_eq_false_iff_ne] at this ⊢
            (repeat' (first | exact trivial | omega | apply And.intro))))), XF_ai k2 fr2 (fun k hk => by simp only [List.contains_cons, List.contains_nil, Bool.or_eq_false_iff, beq_eq_false_iff_ne]; (repeat' (first | exact trivial | omega | apply And.intro))), ?_, List.nodup_cons.mpr ⟨nm, a4⟩, fun x => ?_, ?_, fun x x0 x1 => ?_, fun x x0 x1 => ?_, fun x x0 x1 => ?_, fun x x0 => ?_, fun x x0 => ?_, ?_, ?_⟩ r2.1 r2.2 (by omega)
          · rw [g337]
            refine ⟨rfl, ?_⟩
            rw [g336 v r1.1, if_pos rfl]
            refine seg_congr a3 (fun x hx => ?_)
            have x0 : 0 ≤ x ∧ x ≠ v := by
              rcases List.mem_append.mp hx with w | w
              · exact ⟨Int32.le_trans (by decide) ((a5 x).mp w).1, fun e => nm (by rw [← e]; exact w)⟩
              · exact ⟨Int32.le_trans (by decide) (hr x (List.mem_append.mpr (.inl w))).1, fun e => m (by rw [← e]; exact w)⟩
            rw [g336 x x0.1, if_neg x0.2]
          · rw [List.mem_cons, a5 x, r5 x]
            refine ⟨fun q => ?_, fun ⟨q1, q2, q3, q4⟩ => ?_⟩
            · rcases q with q | ⟨q1, q2, q3⟩
              · rw [q]; exact ⟨h0, .inr rfl, vw, z⟩
              · exact ⟨q1, .inl q2, q3⟩
            · rcases q2 with q | q
              · exact .inr ⟨q1, q, q3, q4⟩
              · exact .inl q
          · rw [g338, tI_sub (by rw [one]; omega) (by rw [one]; omega), a6, one, List.length_cons]
            push_cast
            omega
          · rw [mf_I fr2 (k := 366) rfl, mf_I k3 (k := 366) rfl]; exact a7 x x0 x1
          · rw [g340 x (Int32.le_trans (by decide) x0)]
            by_cases e : x = v
            · rw [if_pos e]
            · rw [if_neg e]
              exact a8 x x0 (((r5 x).mp x1).resolve_right e)
          · have q := r6 x x0
            rw [g340 x (Int32.le_trans r1.1 q.1), if_neg q.2]
            exact a9 x q.1 x1
          · rw [mf_I fr2 (k := 323) rfl, k5 x x0, b1 x x0]
            simp only [List.mem_cons]
            by_cases e : x = v
            · rw [if_pos e, if_pos (.inl e)]
            · rw [if_neg e]
              by_cases q : x ∈ D
              · rw [if_pos q, if_pos (.inr q)]
              · rw [if_neg q, if_neg (fun w => w.elim e q)]
          · rw [mf_I fr2 (k := 324) rfl, k6 x x0, b2 x x0]
            simp only [List.mem_cons]
            by_cases e : x = v
            · rw [if_pos e, if_pos (.inl e)]
            · rw [if_neg e]
              by_cases q : x ∈ D
              · rw [if_pos q, if_pos (.inr q)]
              · rw [if_neg q, if_neg (fun w => w.elim e q)]
          · rw [mf_F fr2 (k := 339) rfl, k7]; exact b3
          · have lx := hx v vw
            have hb := h358
            rw [tI_le, tI_le, show (0 : Int32).toInt = 0 from rfl, show (202 : Int32).toInt = 202 from rfl] at hb
            have sl : ((D.map (fun c => (xf c).length)).sum : Int) ≤ 202 * 121 := by
              have : ∀ (l : List Int32), (∀ c, c ∈ l → (xf c).length ≤ 202) → (l.map (fun c => (xf c).length)).sum ≤ 202 * l.length := fun l => by
                induction l with
                | nil => intro _; simp
                | cons a l il =>
                  intro h
                  have a1 := il (fun c hc => h c (List.mem_cons_of_mem _ hc))
                  have a2 := h a List.mem_cons_self
                  simp only [List.map_cons, List.sum_cons, List.length_cons]
                  omega
              have q := this D (fun c hc => hx c ((a5 c).mp hc).2.2.1)
              omega
            have lI : (Int32.ofNat (xf v).length).toInt = ((xf v).length : Int) := tI_lit (by omega)
            rw [mf_F fr2 (k := 358) rfl, k4, tI_sub (by rw [lI]; omega) (by rw [lI]; omega), lI, b4, List.map_cons, List.sum_cons]
            push_cast
            omega
        · rw [if_neg z, xx5_sweep_b104, gd_in (by decide) r1.1 r1.2, nar_b0]
          exact stay (fun _ => z)
