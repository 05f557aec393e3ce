/-! LAYER 2: step rules: TAIL -/
theorem ent_x {N d : Nat} {σ : mS} {a b c : Int32} (h : 1100 = d + 1) : xx6_enter N σ a b c = bxx6_enter N (rc_xx6_begin N d) σ a b c := by
  rw [xx6_enter, h]; rfl
theorem ent_m {N d : Nat} {μ : mS} {a b c f : Int32} (h : 850 = d + 1) : mm_enter N μ a b c f = mb_enter N (rc_call N d) μ a b c f := by
  rw [mm_enter, h]; rfl
theorem lq_1 {nn i P to : Int32} (n0 : 0 ≤ nn) (n1 : nn ≤ 100) (i0 : 0 ≤ i) (i1 : i ≤ nn) (t0 : 0 ≤ to) (tP : to ≤ P) (P1 : P ≤ 480000) : (0 ≤ P + i ∧ P + i < 500000) ∧ (0 ≤ to + i ∧ to + i < 500000) ∧ to + i ≤ P + i ∧ 0 ≤ i + 1 ∧ i + 1 ≤ nn + 1 ∧ (i + 1).toInt = i.toInt + 1 := by
  refine ⟨⟨by lia, by lia⟩, ⟨by lia, by lia⟩, by lia, by lia, by lia, ?_⟩
  have a := tI_le.mp i0
  have b := tI_le.mp (Int32.le_trans i1 n1)
  rw [show (100 : Int32).toInt = 100 from rfl] at b
  rw [show (0 : Int32).toInt = 0 from rfl] at a
  rw [tI_add, show (1 : Int32).toInt = 1 from rfl] <;> rw [show (1 : Int32).toInt = 1 from rfl] <;> omega
theorem lq_2 {to i k : Int32} (t0 : 0 ≤ to) (t1 : to ≤ 480000) (i0 : 0 ≤ i) (i1 : i ≤ 101) (k0 : 0 ≤ k) (k1 : k < i + 1) (ne : ¬ k = i) : k < i ∧ ¬ to + k = to + i ∧ 0 ≤ to + k := ⟨by lia, by lia, by lia⟩
theorem lq_3 {to i x : Int32} (t0 : 0 ≤ to) (t1 : to ≤ 480000) (i0 : 0 ≤ i) (i1 : i ≤ 101) (h : x < to ∨ to + (i + 1) ≤ x) : (x < to ∨ to + i ≤ x) ∧ ¬ x = to + i := by
  rcases h with h | h
  · exact ⟨.inl h, by lia⟩
  · exact ⟨.inr (by lia), by lia⟩
/-- callee and arguments go down to where the call that ends lay -/
theorem lq_lp {N : Nat} {σ : mS} {P to nn wn th : Int32} (t0 : 0 ≤ to) (tP : to ≤ P) (P1 : P ≤ 480000) (n0 : 0 ≤ nn) (n1 : nn ≤ 100) (tg : ∀ k, 0 ≤ k → k ≤ nn → 0 ≤ sI σ 141 (P + k) ∧ sI σ 141 (P + k) ≤ 8) (j : Nat) (i : Int32) (i0 : 0 ≤ i) (i1 : i ≤ nn + 1) (hj : ((nn + 1).toInt - i.toInt).toNat < j) : ∀ τ, m_fr (fun k => [141, 142].contains k) σ τ → (∀ k, 0 ≤ k → k < i → sI τ 141 (to + k) = sI σ 141 (P + k) ∧ sJ τ 142 (to + k) = sJ σ 142 (P + k)) → (∀ x, 0 ≤ x → x < to ∨ to + i ≤ x → sI τ 141 x = sI σ 141 x ∧ sJ τ 142 x = sJ σ 142 x) → ∃ υ, mm_lastCall_70 N j P nn to wn th i τ = mm_enter N (md_pi υ 143 (to + nn + 1)) to nn wn th ∧ m_fr (fun k => [141, 142].contains k) σ υ ∧ (∀ k, 0 ≤ k → k < nn + 1 → sI υ 141 (to + k) = sI σ 141 (P + k) ∧ sJ υ 142 (to + k) = sJ σ 142 (P + k)) ∧ ∀ x, 0 ≤ x → x < to → sI υ 141 x = sI σ 141 x ∧ sJ υ 142 x = sJ σ 142 x := by
  induction j generalizing i with
  | zero => omega
  | succ j ih =>
    intro τ fr h1 h2
    rw [mm_lastCall_70]
    by_cases ci : nn < i
    · have ei : i = nn + 1 := Int32.le_antisymm i1 (by clear h1 h2 tg; lia)
      subst ei
      rw [if_pos ci, lt, bd_me (fun z => rfl)]
      exact ⟨τ, rfl, fr, h1, fun x x0 x1 => h2 x x0 (.inl x1)⟩
    · have ile : i ≤ nn := Int32.not_lt.mp ci
      have L := lq_1 n0 n1 i0 ile t0 tP P1
      have sv := h2 (P + i) L.1.1 (.inr L.2.2.1)
      have t8 := tg i i0 ile
      have q1 : vp_nar .byte (τ.2.2.1 141 (P + i).toNatClampNeg) = sI σ 141 (P + i) := by
        rw [show τ.2.2.1 141 (P + i).toNatClampNeg = sI σ 141 (P + i) from sv.1]
        exact tag_b t8.1 t8.2
      have q2 : (md_ai τ 141 (to + i).toNatClampNeg (sI σ 141 (P + i))).2.2.2 142 (P + i).toNatClampNeg = sJ σ 142 (P + i) := sv.2
      rw [if_neg ci, gd_in (by decide) L.1.1 L.1.2, gd_in (by decide) L.2.1.1 L.2.1.2, q1, lt, gd_in (by decide) L.1.1 L.1.2, gd_in (by decide) L.2.1.1 L.2.1.2, q2, lt, lt]
      have i101 : i ≤ 101 := Int32.le_trans ile (Int32.le_trans n1 (by decide))
      have t48 := Int32.le_trans tP P1
      refine ih (i + 1) L.2.2.2.1 L.2.2.2.2.1 (by rw [L.2.2.2.2.2]; have := tI_le.mp L.2.2.2.2.1; rw [L.2.2.2.2.2] at this; omega) (mW τ (to + i) (sI σ 141 (P + i)) (sJ σ 142 (P + i))) (mf_tr fr mW_fr) (fun k k0 k1 => ?_) (fun x x0 hx => ?_)
      · by_cases ck : k = i
        · subst ck
          rw [mW_I L.2.1.1 L.2.1.1, mW_J L.2.1.1 L.2.1.1, if_pos rfl, if_pos rfl]
          exact ⟨rfl, rfl⟩
        · have K := lq_2 t0 t48 i0 i101 k0 k1 ck
          rw [mW_I L.2.1.1 K.2.2, mW_J L.2.1.1 K.2.2, if_neg K.2.1, if_neg K.2.1]
          exact h1 k k0 K.1
      · have K := lq_3 t0 t48 i0 i101 hx
        rw [mW_I L.2.1.1 x0, mW_J L.2.1.1 x0, if_neg K.2, if_neg K.2]
        exact h2 x x0 K.1
def tailK (N : Nat) (x7 : Int32) (z49 : mS) : Option (Except (Nat × mS) mS) := gd (inB ((x7 + (1 : Int32))) 340000) (bd (xx6_tag N z49 ((z49.2.2.1 256 (Int32.toNatClampNeg ((x7 + (1 : Int32))))))) (fun z50 => gd (inB ((x7 + (1 : Int32))) 340000) (bd (xx6_value N z50.2 ((z50.2.2.2.1 256 (Int32.toNatClampNeg ((x7 + (1 : Int32))))))) (fun z51 => bx (xx6_tail N z51.2 (z50.1) (z51.1)) (fun z52 => xx6_step_b793 N z52)))))
theorem sf_25c {N : Nat} {x7 : Int32} {σ11 : mS} : stepF N 25 x7 σ11 = gd (inB ((x7 + (1 : Int32))) 340000) (gd (inB ((x7 + (2 : Int32))) 340000) (bd (xx6_gather N σ11 ((σ11.2.2.1 256 (Int32.toNatClampNeg ((x7 + (1 : Int32)))))) ((σ11.2.2.1 256 (Int32.toNatClampNeg ((x7 + (2 : Int32))))))) (tailK N x7))) := rfl
theorem tailK_x {e : EV} {w : WD} {xf : Int32 → List Int32} {c d : Int32} {rest : PL2} {f : Int32} {fl : List Int32} {ρ : List Int32} {m : Int32} {g p q F n : Int32} {σ μ : mS} {υ : mS} {p0 r : Int32} (S : ST e w xf c d rest f fl ρ m g p q F n σ μ) (fr : m_fr (fun k => [397, 398, 399].contains k) σ υ) (ho : 0 ≤ p0 ∧ p0 < 339900) (h1 : nx e (p0 + 1) = r) (r0 : 0 ≤ r) (r1 : r < sI σ 349 f) {N : Nat} : tailK N p0 υ = xx6_tail N υ (xt σ f r) (xv σ f r) := by
  have o := ops_1 ho.1 ho.2
  have h256 : ∀ i : Int32, υ.2.2.1 256 i.toNatClampNeg = nx e i := fun i => (mf_I fr (k := 256) rfl).trans (xP_256 S.1 i)
  obtain ⟨t1, t2⟩ := rd_fr (N := N) S fr rfl rfl rfl r0 r1
  rw [tailK, gd_in (by decide) o.1.1 o.1.2, h256, h1, t1, bd_so, gd_in (by decide) o.1.1 o.1.2, h256, h1, t2, bd_so, rare_s]
def tailE (N : Nat) (z1 : mS) : Option (Except (Nat × mS) mS) := gd (inB ((z1.1 411)) 202) (lt ((z1.2.2.1 350 (Int32.toNatClampNeg ((z1.1 411))))) (fun x2 : Int32 => gd (inB ((z1.1 411)) 202) (lt ((z1.2.2.1 351 (Int32.toNatClampNeg ((z1.1 411))))) (fun x3 : Int32 => gd (inB ((z1.1 411)) 202) (lt ((z1.2.2.1 352 (Int32.toNatClampNeg ((z1.1 411))))) (fun x4 : Int32 => bd (xx5_pop N z1 ((z1.1 339))) (fun z5 => bx (xx6_takeFuel N z5) (fun z6 => bx (xx6_enter N z6 x2 x3 x4) (fun z7 => some (Except.ok z7))))))))))
theorem tail_x {N : Nat} {σ : mS} {a1 : Int32} {a2 : Int64} : xx6_tail N σ a1 a2 = bx (xx6_look N σ a1 a2) (tailE N) := rfl
def lastE (N : Nat) (a1 x6 : Int32) (z7 : Int32 × mS) : Option mS := (if (0 : Int32) ≤ z7.1 then gd (inB a1 256) (lt ((z7.2.2.2.1 149 (Int32.toNatClampNeg a1))) (fun x8 : Int32 => gd (inB a1 256) (lt ((z7.2.2.2.1 150 (Int32.toNatClampNeg a1))) (fun x9 : Int32 => gd (inB a1 256) (lt ((z7.2.2.2.1 151 (Int32.toNatClampNeg a1))) (fun x10 : Int32 => lt (md_pi z7.2 154 (((z7.2.1 154) - 1))) (fun σ11 : mS => lt (md_pi σ11 155 (((σ11.1 155) - 1))) (fun σ12 : mS => mm_lastCall_70 N N x6 z7.1 x8 x9 x10 (0) σ12)))))))) else some z7.2)
theorem last_x {N : Nat} {σ : mS} {a1 a2 : Int32} : mm_lastCall N σ a1 a2 = lt ((((σ.1 143) - a2) - 1)) (fun x6 : Int32 => bd (mm_callable N σ x6 a2) (lastE N a1 x6)) := rfl
theorem tq_1 {n : Int32} (h1 : 1 ≤ n) (h2 : n ≤ 200) : n - 1 - 1 ≤ n - 1 ∧ n - 1 ≤ 256 := ⟨by lia, by lia⟩
theorem tq_2 {nn k : Int32} (n1 : nn ≤ 100) (k0 : 0 ≤ k) (k1 : k ≤ nn) (ne : ¬ k = 0) : 0 ≤ k - 1 ∧ k - 1 < nn ∧ ∀ P : Int32, P + 1 + (k - 1) = P + k := ⟨by lia, by lia, fun P => by lia⟩
theorem tq_3 {nn k : Int32} (n0 : 0 ≤ nn) (n1 : nn ≤ 100) (k0 : 0 ≤ k) (k1 : k < nn) : 0 ≤ k + 1 ∧ k + 1 < nn + 1 ∧ ∀ P : Int32, P + (k + 1) = P + 1 + k := ⟨by lia, by lia, fun P => by lia⟩
theorem tq_4 {nn : Int32} (n0 : 0 ≤ nn) (n1 : nn ≤ 100) : 0 < nn + 1 ∧ 0 ≤ nn + 1 ∧ (nn + 1).toInt ≤ 101 := by
  refine ⟨by lia, by lia, ?_⟩
  have : nn + 1 ≤ 101 := by lia
  exact tI_le.mp this
