/-! LAYER 2: the reference's collector: boxes, coroutines, all the others -/
def bxF (k : Nat) : Bool := [55, 56, 57].contains k
def BXI (σ τ : mS) (v : Int32) (Mk U : List Int32) : Prop := DN σ 235 0 12000 v Mk U ∧ FRw τ 56 55 U ∧ m_fr bxF σ τ ∧ sF τ 57 = Int32.ofNat Mk.length
theorem bx187 {N : Nat} {σ : mS} (hm : ∀ k, 0 ≤ k → k < 12000 → sI σ 235 k = 0 ∨ sI σ 235 k = 1) : ∀ (j : Nat) (v : Int32) (τ : mS) (Mk U : List Int32), BXI σ τ v Mk U → (v.toInt + 1).toNat < j → ∃ τ' Mk' U', mm_sweepOthers_187 N j v τ = mm_sweepOthers_241 N N 0 τ' ∧ BXI σ τ' (-1) Mk' U' := by
  intro j
  induction j with
  | zero => intro v τ Mk U _ h; omega
  | succ j ih =>
    intro v τ Mk U S hj
    by_cases v0 : v < 0
    · have e : v = -1 := by
        have := S.1.1.1
        clear S ih hm
        lia
      subst e
      refine ⟨τ, Mk, U, ?_, S⟩
      rw [mm_sweepOthers_187, if_pos (by decide)]
    · obtain ⟨vr, v1, v2, _⟩ := v_N v0 S.1.1.2
      have e235 : sI τ 235 v = sI σ 235 v := mf_I S.2.2.1 rfl
      have ul := DN_len S.1 (by decide)
      have d9 := S.1.2.2.2.2.2.2.2
      obtain ⟨D, F, fr, s4⟩ := S
      have z : (12000 : Int32).toInt = 12000 := rfl
      rw [z] at d9
      rcases hm v vr.1 vr.2 with h | h
      · have c0 : 0 ≤ sF τ 56 := by rw [F.1]; exact oN_nn (by omega)
        have c1 : sF τ 56 < 12000 := by
          rw [F.1, tI_lt, tI_lit (by omega), z]
          omega
        obtain ⟨τ', Mk', U', e, P⟩ := ih (v + -1) (md_pi (md_ai τ 55 (sF τ 56).toNatClampNeg v) 56 (sF τ 56 + 1)) Mk (U ++ [v]) ⟨DN_u D v0 h (by decide) (by decide) (by decide), FRw_s F (by omega) (by simp only [sF_pi, sF_pl, sF_ai, sF_al, sG_pi, sG_pl, sG_ai, sG_al, sI_pi, sI_pl, sI_al, sI_ai1, sI_ai2, sJ_pi, sJ_pl, sJ_ai, sJ_al1, sJ_al2, Nat.reduceEqDiff, if_true, if_false, ne_eq, not_false_eq_true, ite_true, ite_false]; rw [F.1]) (fun i i0 => by
          rw [sI_pi, sI_ai c0 i0, F.1]
          by_cases q : i = Int32.ofNat U.length
          · rw [if_pos ⟨rfl, q⟩, if_pos q]
          · rw [if_neg (fun h => q h.2), if_neg q]), mf_pi (mf_ai fr rfl) rfl, by simp (disch := decide) only [sF_pi, sF_pl, sF_ai, sF_al, sG_pi, sG_pl, sG_ai, sG_al, sI_pi, sI_pl, sI_al, sI_ai1, sI_ai2, sJ_pi, sJ_pl, sJ_ai, sJ_al1, sJ_al2, Nat.reduceEqDiff, if_true, if_false, ne_eq, not_false_eq_true, ite_true, ite_false]; exact s4⟩ (by omega)
        refine ⟨τ', Mk', U', ?_, P⟩
        rw [← e]
        rw [mm_sweepOthers_187, if_neg v0]
        simp only [lt, sF_fold, sI_fold]
        rw [gd_in (by decide) vr.1 vr.2, e235, if_pos h, gd_in (by decide) c0 c1]
        rfl
      · obtain ⟨nm, D'⟩ := DN_m D v0 h (by decide) (by decide) (by decide)
        obtain ⟨τ', Mk', U', e, P⟩ := ih (v + -1) (md_pi τ 57 (sF τ 57 + 1)) (Mk ++ [0 + v]) U ⟨D', FRw_fr F (mf_pi (mf_rfl (P := fun k => k == 57)) rfl) rfl rfl, mf_pi fr rfl, by rw [sF_pi, if_pos rfl, s4, List.length_append, List.length_singleton]; exact oN_s⟩ (by omega)
        refine ⟨τ', Mk', U', ?_, P⟩
        rw [← e]
        rw [mm_sweepOthers_187, if_neg v0]
        simp only [lt, sF_fold, sI_fold]
        rw [gd_in (by decide) vr.1 vr.2, e235, if_neg (by rw [h]; decide)]
        rfl
/-- coroutines that are dropped -/
def thF (k : Nat) : Bool := [155, 164, 166, 170, 171].contains k
def k166 (σ : mS) (D : List Int32) : Int := (D.map (fun d => (sI σ 166 d).toInt)).sum
def THI (σ τ : mS) (v : Int32) (D : List Int32) : Prop := m_fr thF σ τ ∧ (∀ d, 0 ≤ d → sI τ 170 d = if d ∈ D then 0 else sI σ 170 d) ∧ (∀ d, 0 ≤ d → sI τ 166 d = if d ∈ D then 0 else sI σ 166 d) ∧ (∀ d, 0 ≤ d → sI τ 164 d = if d ∈ D then 0 else sI σ 164 d) ∧ D.Nodup ∧ (∀ d, d ∈ D ↔ 0 ≤ d ∧ d < v ∧ sI σ 170 d ≠ 0 ∧ sI σ 236 d = 0) ∧ (sF τ 171).toInt = (sF σ 171).toInt - D.length ∧ (sF τ 155).toInt = (sF σ 155).toInt - k166 σ D
theorem k166_s {σ : mS} {D : List Int32} {d : Int32} : k166 σ (D ++ [d]) = k166 σ D + (sI σ 166 d).toInt := by
  simp only [k166, List.map_append, List.map_cons, List.map_nil, List.sum_append, List.sum_cons, List.sum_nil]
  omega
theorem th_1 {v : Int32} (h0 : 0 ≤ v) (h1 : ¬ 120 ≤ v) : (0 ≤ v ∧ v < 121) ∧ (0 ≤ v + 1 ∧ v + 1 ≤ 120) ∧ (v + 1).toInt = v.toInt + 1 ∧ v.toInt < 120 ∧ ∀ d, d < v + 1 ↔ d < v ∨ d = v := by
  have h := Int32.not_le.mp h1
  refine ⟨⟨h0, by lia⟩, ⟨by lia, by lia⟩, tI_inc h0 (by lia), ?_, fun d => ⟨fun q => by lia, fun q => by rcases q with q | q <;> lia⟩⟩
  rw [tI_lt] at h
  exact h
theorem k166_b {σ : mS} : ∀ {D : List Int32}, (∀ d, d ∈ D → 0 ≤ sI σ 166 d ∧ sI σ 166 d ≤ 500) → 0 ≤ k166 σ D ∧ k166 σ D ≤ 500 * D.length
  | [], _ => by simp [k166]
  | d :: D, h => by
    have i := k166_b (D := D) (fun x hx => h x (List.mem_cons_of_mem _ hx))
    have a := h d List.mem_cons_self
    rw [tI_le, tI_le] at a
    rw [show (0 : Int32).toInt = 0 from rfl, show (500 : Int32).toInt = 500 from rfl] at a
    simp only [k166, List.map_cons, List.sum_cons, List.length_cons] at i ⊢
    omega
theorem nd_M {D : List Int32} {M : Int32} (nd : D.Nodup) (h : ∀ d, d ∈ D → 0 ≤ d ∧ d < M) : D.length ≤ M.toInt.toNat := by
  refine pigeon M.toInt.toNat D.length (fun i => (D.getD i 0).toInt.toNat) (fun i hi => ?_) (fun i j hij hj => ?_)
  · have m : D.getD i 0 ∈ D := by
      rw [List.getD_eq_getElem?_getD, List.getElem?_eq_getElem hi]
      exact List.getElem_mem hi
    obtain ⟨a, b⟩ := h _ m
    rw [tI_le] at a
    rw [tI_lt] at b
    rw [show (0 : Int32).toInt = 0 from rfl] at a
    show (D.getD i 0).toInt.toNat < M.toInt.toNat
    omega
  · have hi : i < D.length := by omega
    have mi : D.getD i 0 ∈ D := by
      rw [List.getD_eq_getElem?_getD, List.getElem?_eq_getElem hi]
      exact List.getElem_mem hi
    have mj : D.getD j 0 ∈ D := by
      rw [List.getD_eq_getElem?_getD, List.getElem?_eq_getElem hj]
      exact List.getElem_mem hj
    have a := (h _ mi).1
    have b := (h _ mj).1
    intro q
    have q' : (D.getD i 0).toInt.toNat = (D.getD j 0).toInt.toNat := q
    rw [tI_le, show (0 : Int32).toInt = 0 from rfl] at a b
    have e : D.getD i 0 = D.getD j 0 := by rw [tI_eq]; omega
    simp only [List.getD_eq_getElem?_getD, List.getElem?_eq_getElem hi, List.getElem?_eq_getElem hj, Option.getD_some] at e
    have := (List.getElem_inj nd).mp e
    omega
theorem nd_120 {D : List Int32} (nd : D.Nodup) (h : ∀ d, d ∈ D → 0 ≤ d ∧ d < 120) : D.length ≤ 120 := nd_M nd h
theorem nd_20k {D : List Int32} (nd : D.Nodup) (h : ∀ d, d ∈ D → 0 ≤ d ∧ d < 20000) : D.length ≤ 20000 := nd_M nd h
theorem THI_len {σ τ : mS} {v : Int32} {D : List Int32} (T : THI σ τ v D) (h : v ≤ 120) : D.length ≤ 120 := nd_120 T.2.2.2.2.1 (fun d hd => by
  have := (T.2.2.2.2.2.1 d).mp hd
  exact ⟨this.1, Int32.lt_of_lt_of_le this.2.1 h⟩)
/-- one that stays -/
theorem THI_k {σ τ : mS} {v : Int32} {D : List Int32} (T : THI σ τ v D) (h0 : 0 ≤ v) (h1 : ¬ 120 ≤ v) (h : sI σ 170 v = 0 ∨ sI σ 236 v ≠ 0) : THI σ τ (v + 1) D := by
  obtain ⟨a1, a2, a3, a4, a5, a6, a7, a8⟩ := T
  have t := th_1 h0 h1
  refine ⟨a1, a2, a3, a4, a5, fun d => ?_, a7, a8⟩
  rw [a6 d, t.2.2.2.2 d]
  refine ⟨fun ⟨q1, q2, q3⟩ => ⟨q1, .inl q2, q3⟩, fun ⟨q1, q2, q3, q4⟩ => ⟨q1, ?_, q3, q4⟩⟩
  rcases q2 with q | q
  · exact q
  · rw [q] at q3 q4
    rcases h with h | h
    · exact absurd h q3
    · exact absurd q4 h
theorem mem_sn {D : List Int32} {v d : Int32} : d ∈ D ++ [v] ↔ d ∈ D ∨ d = v := by rw [List.mem_append, List.mem_singleton]
theorem THI_d {σ τ : mS} {v : Int32} {D : List Int32} (T : THI σ τ v D) (h0 : 0 ≤ v) (h1 : ¬ 120 ≤ v) (q1 : sI σ 170 v ≠ 0) (q2 : sI σ 236 v = 0) (b1 : 0 ≤ sF σ 171 ∧ sF σ 171 ≤ 120) (b2 : 0 ≤ sF σ 155 ∧ sF σ 155 ≤ 1000) (b3 : ∀ d, 0 ≤ d → d < 120 → sI σ 170 d ≠ 0 → 0 ≤ sI σ 166 d ∧ sI σ 166 d ≤ 500) : THI σ (md_ai (md_ai (md_pi (md_pi (md_ai τ 170 v.toNatClampNeg 0) 171 (sF τ 171 - 1)) 155 (sF τ 155 - sI τ 166 v)) 166 v.toNatClampNeg 0) 164 v.toNatClampNeg 0) (v + 1) (D ++ [v]) := by
  have ln := THI_len T (Int32.le_of_lt (Int32.not_le.mp h1))
  obtain ⟨a1, a2, a3, a4, a5, a6, a7, a8⟩ := T
  have t := th_1 h0 h1
  have nm : v ∉ D := fun q => absurd ((a6 v).mp q).2.1 Int32.lt_irrefl
  have e166 : sI τ 166 v = sI σ 166 v := by rw [a3 v h0, if_neg nm]
  have k1 := b3 v h0 (Int32.not_le.mp h1) q1
  have kD := k166_b (σ := σ) (D := D) (fun d hd => by
    have := (a6 d).mp hd
    exact b3 d this.1 (Int32.lt_trans this.2.1 (Int32.not_le.mp h1)) this.2.2.1)
  rw [tI_le, tI_le] at k1
  rw [tI_le, tI_le] at b1 b2
  rw [show (0 : Int32).toInt = 0 from rfl, show (500 : Int32).toInt = 500 from rfl] at k1
  rw [show (0 : Int32).toInt = 0 from rfl, show (120 : Int32).toInt = 120 from rfl] at b1
  rw [show (0 : Int32).toInt = 0 from rfl, show (1000 : Int32).toInt = 1000 from rfl] at b2
  have one : (1 : Int32).toInt = 1 := rfl
  refine ⟨mf_ai (mf_ai (mf_pi (mf_pi (mf_ai a1 rfl) rfl) rfl) rfl) rfl, fun d d0 => ?_, fun d d0 => ?_, fun d d0 => ?_, ?_, fun d => ?_, ?_, ?_⟩
  · rw [sI_ai1 (by decide), sI_ai1 (by decide), sI_pi, sI_pi, sI_ai h0 d0, a2 d d0]
    by_cases e : d = v
    · rw [if_pos ⟨rfl, e⟩, if_pos (mem_sn.mpr (.inr e))]
    · rw [if_neg (fun h => e h.2)]
      by_cases m : d ∈ D
      · rw [if_pos m, if_pos (mem_sn.mpr (.inl m))]
      · rw [if_neg m, if_neg (fun h => (mem_sn.mp h).elim m e)]
  · rw [sI_ai1 (by decide), sI_ai h0 d0, sI_pi, sI_pi, sI_ai1 (by decide), a3 d d0]
    by_cases e : d = v
    · rw [if_pos ⟨rfl, e⟩, if_pos (mem_sn.mpr (.inr e))]
    · rw [if_neg (fun h => e h.2)]
      by_cases m : d ∈ D
      · rw [if_pos m, if_pos (mem_sn.mpr (.inl m))]
      · rw [if_neg m, if_neg (fun h => (mem_sn.mp h).elim m e)]
  · rw [sI_ai h0 d0, sI_ai1 (by decide), sI_pi, sI_pi, sI_ai1 (by decide), a4 d d0]
    by_cases e : d = v
    · rw [if_pos ⟨rfl, e⟩, if_pos (mem_sn.mpr (.inr e))]
    · rw [if_neg (fun h => e h.2)]
      by_cases m : d ∈ D
      · rw [if_pos m, if_pos (mem_sn.mpr (.inl m))]
      · rw [if_neg m, if_neg (fun h => (mem_sn.mp h).elim m e)]
  · refine List.nodup_append.mpr ⟨a5, by simp, fun a ha b hb => ?_⟩
    rw [List.mem_singleton] at hb
    subst hb
    exact fun q => nm (by rw [← q]; exact ha)
  · rw [mem_sn, a6 d, t.2.2.2.2 d]
    refine ⟨fun q => ?_, fun ⟨u1, u2, u3, u4⟩ => ?_⟩
    · rcases q with ⟨u1, u2, u3⟩ | q
      · exact ⟨u1, .inl u2, u3⟩
      · rw [q]; exact ⟨h0, .inr rfl, q1, q2⟩
    · rcases u2 with u | u
      · exact .inl ⟨u1, u, u3, u4⟩
      · exact .inr u
  · simp (disch := decide) only [sF_pi, sF_pl, sF_ai, sF_al, sG_pi, sG_pl, sG_ai, sG_al, sI_pi, sI_pl, sI_al, sI_ai1, sI_ai2, sJ_pi, sJ_pl, sJ_ai, sJ_al1, sJ_al2, Nat.reduceEqDiff, if_true, if_false, ne_eq, not_false_eq_true, ite_true, ite_false]
    rw [tI_sub (by rw [one]; omega) (by rw [one]; omega), a7, one, List.length_append, List.length_singleton]
    push_cast
    omega
  · simp (disch := decide) only [sF_pi, sF_pl, sF_ai, sF_al, sG_pi, sG_pl, sG_ai, sG_al, sI_pi, sI_pl, sI_al, sI_ai1, sI_ai2, sJ_pi, sJ_pl, sJ_ai, sJ_al1, sJ_al2, Nat.reduceEqDiff, if_true, if_false, ne_eq, not_false_eq_true, ite_true, ite_false]
    rw [e166, tI_sub (by omega) (by omega), a8, k166_s]
    omega
theorem th241 {N : Nat} {σ : mS} (b1 : 0 ≤ sF σ 171 ∧ sF σ 171 ≤ 120) (b2 : 0 ≤ sF σ 155 ∧ sF σ 155 ≤ 1000) (b3 : ∀ d, 0 ≤ d → d < 120 → sI σ 170 d ≠ 0 → 0 ≤ sI σ 166 d ∧ sI σ 166 d ≤ 500) : ∀ (j : Nat) (v : Int32) (τ : mS) (D : List Int32), THI σ τ v D → 0 ≤ v → v ≤ 120 → (120 - v.toInt).toNat < j → ∃ τ' D', mm_sweepOthers_241 N j v τ = some τ' ∧ THI σ τ' 120 D' := by
  intro j
  induction j with
  | zero => intro v τ D _ _ _ h; omega
  | succ j ih =>
    intro v τ D T h0 h1 hj
    by_cases c : 120 ≤ v
    · have e := Int32.le_antisymm h1 c
      subst e
      refine ⟨τ, D, ?_, T⟩
      rw [mm_sweepOthers_241, if_pos c]
    · have t := th_1 h0 c
      have nm : v ∉ D := fun q => absurd ((T.2.2.2.2.2.1 v).mp q).2.1 Int32.lt_irrefl
      have e170 : sI τ 170 v = sI σ 170 v := by rw [T.2.1 v h0, if_neg nm]
      have e236 : sI τ 236 v = sI σ 236 v := mf_I T.1 rfl
      rw [mm_sweepOthers_241, if_neg c]
      simp only [lt, sF_fold, sI_fold]
      rw [gd_in (by decide) t.1.1 t.1.2, e170]
      by_cases q1 : sI σ 170 v = 0
      · rw [if_pos q1]
        exact ih (v + 1) τ D (THI_k T h0 c (.inl q1)) t.2.1.1 t.2.1.2 (by omega)
      · rw [if_neg q1, gd_in (by decide) t.1.1 t.1.2, e236]
        by_cases q2 : sI σ 236 v = 0
        · rw [if_pos q2, gd_in (by decide) t.1.1 t.1.2, gd_in (by decide) t.1.1 t.1.2, gd_in (by decide) t.1.1 t.1.2, gd_in (by decide) t.1.1 t.1.2]
          have P := THI_d T h0 c q1 q2 b1 b2 b3
          have := ih (v + 1) _ (D ++ [v]) P t.2.1.1 t.2.1.2 (by omega)
          simp (disch := decide) only [sF_pi, sF_pl, sF_ai, sF_al, sG_pi, sG_pl, sG_ai, sG_al, sI_pi, sI_pl, sI_al, sI_ai1, sI_ai2, sJ_pi, sJ_pl, sJ_ai, sJ_al1, sJ_al2, Nat.reduceEqDiff, if_true, if_false, ne_eq, not_false_eq_true, ite_true, ite_false, nar_b0]
          exact this
        · rw [if_neg q2]
          exact ih (v + 1) τ D (THI_k T h0 c (.inr q2)) t.2.1.1 t.2.1.2 (by omega)
