/-! LAYER 2: the reference's collector: all strings come together -/
/-- rounds of a loop downwards over marks: what is held (p behind), what is free -/
def DN (σ : mS) (mf : Nat) (p M v : Int32) (Mk U : List Int32) : Prop :=
  ((-1 ≤ v ∧ v < M) ∧ (∀ k, v < k → k < M → (sI σ mf k = 1 ↔ p + k ∈ Mk)) ∧ (∀ k, v < k → k < M → (sI σ mf k = 0 ↔ k ∈ U)) ∧ (∀ b, b ∈ Mk → ∃ k, v < k ∧ k < M ∧ b = p + k ∧ sI σ mf k = 1) ∧ (∀ k, k ∈ U → v < k ∧ k < M ∧ sI σ mf k = 0) ∧ Mk.Nodup ∧ U.Nodup ∧ (U.length : Int) + Mk.length + v.toInt + 1 = M.toInt)
theorem dn_1 {v M : Int32} (h0 : ¬ v < 0) (h1 : v < M) : 0 ≤ v ∧ v + -1 < M ∧ -1 ≤ v + -1 ∧ (v + -1).toInt = v.toInt - 1 ∧ (∀ k, v + -1 < k ↔ v < k ∨ k = v) := by
  have h := Int32.not_lt.mp h0
  refine ⟨h, by lia, by lia, ?_, fun k => ⟨fun q => by lia, fun q => by rcases q with q | q <;> lia⟩⟩
  have a := tI_le.mp h
  have b := tI_rng v
  rw [show (0 : Int32).toInt = 0 from rfl] at a
  have e1 : (-1 : Int32).toInt = -1 := rfl
  rw [tI_add]
  all_goals (rw [e1]; omega)
theorem DN_0 {σ : mS} {mf : Nat} {p M : Int32} (h : 0 < M) (h2 : M ≤ 32768) : DN σ mf p M (M - 1) [] [] := by
  have e : (M - 1).toInt = M.toInt - 1 := tI_dec h
  refine ⟨⟨by lia, by lia⟩, fun k k0 k1 => absurd k1 (by lia), fun k k0 k1 => absurd k1 (by lia), fun b h => absurd h (by simp), fun k h => absurd h (by simp), by simp, by simp, ?_⟩
  simp only [List.length_nil]
  omega
/-- one that isn't marked -/
theorem DN_u {σ : mS} {mf : Nat} {p M v : Int32} {Mk U : List Int32} (D : DN σ mf p M v Mk U) (h0 : ¬ v < 0) (hv : sI σ mf v = 0) (p0 : 0 ≤ p) (p1 : p ≤ 30000) (M1 : M ≤ 32768) : DN σ mf p M (v + -1) Mk (U ++ [v]) := by
  obtain ⟨⟨d1, d2⟩, d3, d4, d5, d6, d7, d8, d9⟩ := D
  obtain ⟨b1, b2, b3, b4, b5⟩ := dn_1 h0 d2
  have nv : v ∉ U := fun h => absurd (d6 v h).1 Int32.lt_irrefl
  refine ⟨⟨b3, b2⟩, fun k k0 k1 => ?_, fun k k0 k1 => ?_, fun b hb => ?_, fun k hk => ?_, d7, ?_, ?_⟩
  · rcases (b5 k).mp k0 with q | q
    · exact d3 k q k1
    · subst q
      refine ⟨fun h => absurd (hv.symm.trans h) (by decide), fun h => ?_⟩
      obtain ⟨k', q1, q2, q3, q4⟩ := d5 _ h
      have : k' = k := by clear d3 d4 d5 d6 b5; lia
      subst this
      exact absurd q1 Int32.lt_irrefl
  · rw [List.mem_append, List.mem_singleton]
    rcases (b5 k).mp k0 with q | q
    · rw [d4 k q k1]
      exact ⟨.inl, fun h => h.elim id (fun h => by rw [h] at q; exact absurd q Int32.lt_irrefl)⟩
    · subst q
      exact ⟨fun _ => .inr rfl, fun _ => hv⟩
  · obtain ⟨k, q1, q2⟩ := d5 b hb
    exact ⟨k, (b5 k).mpr (.inl q1), q2⟩
  · rcases List.mem_append.mp hk with h | h
    · exact ⟨(b5 k).mpr (.inl (d6 k h).1), (d6 k h).2⟩
    · rw [List.mem_singleton] at h
      subst h
      exact ⟨(b5 k).mpr (.inr rfl), d2, hv⟩
  · refine List.nodup_append.mpr ⟨d8, by simp, fun a ha b hb => ?_⟩
    rw [List.mem_singleton] at hb
    subst hb
    exact fun q => nv (by rw [← q]; exact ha)
  · rw [List.length_append, List.length_singleton, b4]
    push_cast
    omega
/-- one that is -/
theorem DN_m {σ : mS} {mf : Nat} {p M v : Int32} {Mk U : List Int32} (D : DN σ mf p M v Mk U) (h0 : ¬ v < 0) (hv : sI σ mf v = 1) (p0 : 0 ≤ p) (p1 : p ≤ 30000) (M1 : M ≤ 32768) : p + v ∉ Mk ∧ DN σ mf p M (v + -1) (Mk ++ [p + v]) U := by
  obtain ⟨⟨d1, d2⟩, d3, d4, d5, d6, d7, d8, d9⟩ := D
  obtain ⟨b1, b2, b3, b4, b5⟩ := dn_1 h0 d2
  have inj : ∀ k, 0 ≤ k → k < M → (p + k = p + v ↔ k = v) := fun k k0 k1 => ⟨fun h => by clear d3 d4 d5 d6 b5; lia, fun h => by rw [h]⟩
  have nv : p + v ∉ Mk := fun h => by
    obtain ⟨k, q1, q2, q3, q4⟩ := d5 _ h
    have := (inj k (Int32.le_trans b1 (Int32.le_of_lt q1)) q2).mp q3.symm
    rw [this] at q1
    exact absurd q1 Int32.lt_irrefl
  refine ⟨nv, ⟨b3, b2⟩, fun k k0 k1 => ?_, fun k k0 k1 => ?_, fun b hb => ?_, fun k hk => ?_, ?_, d8, ?_⟩
  · rw [List.mem_append, List.mem_singleton]
    rcases (b5 k).mp k0 with q | q
    · rw [d3 k q k1, inj k (Int32.le_trans b1 (Int32.le_of_lt q)) k1]
      exact ⟨.inl, fun h => h.elim id (fun h => by rw [h] at q; exact absurd q Int32.lt_irrefl)⟩
    · subst q
      exact ⟨fun _ => .inr rfl, fun _ => hv⟩
  · rcases (b5 k).mp k0 with q | q
    · exact d4 k q k1
    · subst q
      exact ⟨fun h => absurd (hv.symm.trans h) (by decide), fun h => absurd (d6 k h).1 Int32.lt_irrefl⟩
  · rcases List.mem_append.mp hb with h | h
    · obtain ⟨k, q1, q2⟩ := d5 b h
      exact ⟨k, (b5 k).mpr (.inl q1), q2⟩
    · rw [List.mem_singleton] at h
      exact ⟨v, (b5 v).mpr (.inr rfl), d2, h, hv⟩
  · exact ⟨(b5 k).mpr (.inl (d6 k hk).1), (d6 k hk).2⟩
  · refine List.nodup_append.mpr ⟨d7, by simp, fun a ha b hb => ?_⟩
    rw [List.mem_singleton] at hb
    subst hb
    exact fun q => nv (by rw [← q]; exact ha)
  · rw [List.length_append, List.length_singleton, b4]
    push_cast
    omega
/-- free places on a row -/
def FRw (τ : mS) (cf rf : Nat) (U : List Int32) : Prop := sF τ cf = Int32.ofNat U.length ∧ ∀ j, j < U.length → sI τ rf (Int32.ofNat j) = U.getD j 0
theorem FRw_s {τ τ' : mS} {cf rf : Nat} {U : List Int32} {v : Int32} (F : FRw τ cf rf U) (hU : U.length < 2000000) (h1 : sF τ' cf = Int32.ofNat U.length + 1) (h2 : ∀ i, 0 ≤ i → sI τ' rf i = if i = Int32.ofNat U.length then v else sI τ rf i) : FRw τ' cf rf (U ++ [v]) := by
  refine ⟨by rw [h1, List.length_append, List.length_singleton]; exact oN_s, fun j hj => ?_⟩
  rw [List.length_append, List.length_singleton] at hj
  rw [h2 _ (oN_nn (by omega))]
  by_cases cj : j = U.length
  · subst cj
    rw [if_pos rfl, app_ln]
  · rw [if_neg (fun q => cj ((oN_eq (by omega) (by omega)).mp q)), app_at (by omega)]
    exact F.2 j (by omega)
theorem FRw_fr {P : Nat → Bool} {τ τ' : mS} {cf rf : Nat} {U : List Int32} (F : FRw τ cf rf U) (fr : m_fr P τ τ') (h1 : P cf = false) (h2 : P rf = false) : FRw τ' cf rf U := ⟨(mf_F fr h1).trans F.1, fun j hj => (mf_I fr h2).trans (F.2 j hj)⟩
/-- the loop is over -/
theorem DN_FS {σ τ : mS} {mf cf rf : Nat} {p M : Int32} {Mk U : List Int32} (D : DN σ mf p M (-1) Mk U) (F : FRw τ cf rf U) (p0 : 0 ≤ p) (p1 : p ≤ 30000) (M0 : 0 < M) (M1 : M ≤ 32768) : FS (sI τ rf) (sF τ cf) M p Mk := by
  obtain ⟨⟨d1, d2⟩, d3, d4, d5, d6, d7, d8, d9⟩ := D
  have mI := tI_le.mp M1
  rw [show (32768 : Int32).toInt = 32768 from rfl] at mI
  rw [show (-1 : Int32).toInt = -1 from rfl] at d9
  have ul : U.length ≤ 32768 := by omega
  have n0 : ∀ k, (-1 : Int32) < k → 0 ≤ k := fun k h => by lia
  have at' : ∀ i, 0 ≤ i → i < Int32.ofNat U.length → ∃ j, j < U.length ∧ i = Int32.ofNat j ∧ sI τ rf i = U.getD j 0 := fun i i0 i1 => by
    have e := oN_cl' i0
    rw [← e, oN_lt (by rw [tI_cl]; have := tI_rng i; omega) (by omega)] at i1
    exact ⟨i.toNatClampNeg, i1, e.symm, by rw [← F.2 _ i1, e]⟩
  have gm : ∀ j, j < U.length → U.getD j 0 ∈ U := fun j hj => by
    rw [List.getD_eq_getElem?_getD, List.getElem?_eq_getElem hj]
    exact List.getElem_mem hj
  rw [F.1]
  refine ⟨oN_nn (by omega), ?_, fun i i0 i1 => ?_, fun i j i0 i1 j1 => ?_, d7, fun x hx => ?_, ?_⟩
  · rw [tI_le, tI_lit (by omega)]
    omega
  · obtain ⟨j, hj, _, e⟩ := at' i i0 i1
    rw [e]
    obtain ⟨q1, q2, q3⟩ := d6 _ (gm j hj)
    refine ⟨n0 _ q1, q2, fun h => ?_⟩
    have := (d3 _ q1 q2).mpr h
    exact absurd (q3.symm.trans this) (by decide)
  · obtain ⟨a, ha, ea, e1⟩ := at' i i0 (Int32.lt_trans i1 j1)
    obtain ⟨b, hb, eb, e2⟩ := at' j (Int32.le_trans i0 (Int32.le_of_lt i1)) j1
    rw [e1, e2]
    intro q
    simp only [List.getD_eq_getElem?_getD, List.getElem?_eq_getElem ha, List.getElem?_eq_getElem hb, Option.getD_some] at q
    have := (List.getElem_inj d8).mp q
    rw [ea, eb, this] at i1
    exact absurd i1 Int32.lt_irrefl
  · obtain ⟨k, q1, q2, q3, q4⟩ := d5 x hx
    have := n0 k q1
    rw [q3]
    clear d3 d4 d5 d6 at' gm n0
    exact ⟨by lia, by lia⟩
  · rw [tI_lit (by omega)]
    omega
