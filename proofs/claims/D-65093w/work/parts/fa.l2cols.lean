/-! LAYER 2: the system's collector: functions come together -/
def sfF (k : Nat) : Bool := [223, 226, 227, 228, 229, 230, 231, 232, 239].contains k
def SFI (σ τ : mS) (K R f : List Int32) (v A : Int32) : Prop := m_fr sfF σ τ ∧ OLI (sI τ 226) (sF τ 227) (sF τ 228) (sF τ 229) (sF τ 230) 4000 K R f v ∧ lay (sI τ 223) (sI σ 224) 12000 0 K (sF τ 232) ∧ (∃ E, lay (sI σ 223) (sI σ 224) 12000 A R E) ∧ sF τ 232 ≤ A ∧ A ≤ 12000 ∧ (∀ x, x ∈ R → sI τ 223 x = sI σ 223 x ∧ sI τ 239 x = sI σ 239 x) ∧ (∀ m, A ≤ m → m < 12000 → sI τ 231 m = sI σ 231 m) ∧ (∀ x, x ∈ K → ∀ k, 0 ≤ k → k < sI σ 224 x → sI τ 231 (sI τ 223 x + k) = sI σ 231 (sI σ 223 x + k)) ∧ (∀ x, 0 ≤ x → x < 4000 → x ∉ R → sI τ 239 x = 0)
def sfD (τ : mS) (h : Int32) : mS := md_ai (md_pi (md_pi (md_ai τ 226 h.toNatClampNeg (sF τ 229)) 229 h) 230 (sF τ 230 - 1)) 239 h.toNatClampNeg 0
/-- τ with its captures copied, then its place -/
def sfK0 (τ : mS) (h B n : Int32) : mS := md_ai (md_pi (md_ai τ 223 h.toNatClampNeg B) 232 (B + n)) 226 h.toNatClampNeg (-1)
def sfK (τ : mS) (h B n : Int32) : mS := md_ai (md_pi (if sF τ 228 = -1 then md_pi (sfK0 τ h B n) 227 h else md_ai (sfK0 τ h B n) 226 (sF τ 228).toNatClampNeg h) 228 h) 239 h.toNatClampNeg 0
theorem sfD_p {τ : mS} {h : Int32} (h0 : 0 ≤ h) : (∀ x, 0 ≤ x → sI (sfD τ h) 226 x = if x = h then sF τ 229 else sI τ 226 x) ∧ (∀ x, 0 ≤ x → sI (sfD τ h) 239 x = if x = h then 0 else sI τ 239 x) ∧ sF (sfD τ h) 227 = sF τ 227 ∧ sF (sfD τ h) 228 = sF τ 228 ∧ sF (sfD τ h) 229 = h ∧ sF (sfD τ h) 230 = sF τ 230 - 1 ∧ sF (sfD τ h) 232 = sF τ 232 ∧ m_fr (fun k => [226, 229, 230, 239].contains k) τ (sfD τ h) := by
  refine ⟨fun x x0 => ?_, fun x x0 => ?_, ?_, ?_, ?_, ?_, ?_, mf_ai (mf_pi (mf_pi (mf_ai mf_rfl rfl) rfl) rfl) rfl⟩
  · rw [sfD, sI_ai1 (by decide), sI_pi, sI_pi, sI_ai h0 x0]
    by_cases e : x = h
    · rw [if_pos ⟨rfl, e⟩, if_pos e]
    · rw [if_neg (fun q => e q.2), if_neg e]
  · rw [sfD, sI_ai h0 x0, sI_pi, sI_pi, sI_ai1 (by decide)]
    by_cases e : x = h
    · rw [if_pos ⟨rfl, e⟩, if_pos e]
    · rw [if_neg (fun q => e q.2), if_neg e]
  all_goals (simp (disch := decide) only [sfD, sF_pi, sF_pl, sF_ai, sF_al, sG_pi, sG_pl, sG_ai, sG_al, sI_pi, sI_pl, sI_al, sI_ai1, sI_ai2, sJ_pi, sJ_pl, sJ_ai, sJ_al1, sJ_al2, Nat.reduceEqDiff, if_true, if_false, ne_eq, not_false_eq_true, ite_true, ite_false])
theorem sfK_p {τ : mS} {h B n : Int32} (h0 : 0 ≤ h) (l0 : sF τ 228 = -1 ∨ 0 ≤ sF τ 228) : (∀ x, 0 ≤ x → sI (sfK τ h B n) 226 x = if sF τ 228 ≠ -1 ∧ x = sF τ 228 then h else if x = h then -1 else sI τ 226 x) ∧ (∀ x, 0 ≤ x → sI (sfK τ h B n) 239 x = if x = h then 0 else sI τ 239 x) ∧ (∀ x, 0 ≤ x → sI (sfK τ h B n) 223 x = if x = h then B else sI τ 223 x) ∧ sF (sfK τ h B n) 227 = (if sF τ 228 = -1 then h else sF τ 227) ∧ sF (sfK τ h B n) 228 = h ∧ sF (sfK τ h B n) 229 = sF τ 229 ∧ sF (sfK τ h B n) 230 = sF τ 230 ∧ sF (sfK τ h B n) 232 = B + n ∧ m_fr (fun k => [223, 226, 227, 228, 232, 239].contains k) τ (sfK τ h B n) := by
  have c128 : ∀ x, 0 ≤ x → sI (sfK0 τ h B n) 223 x = if x = h then B else sI τ 223 x := fun x x0 => by
    rw [sfK0, sI_ai1 (by decide), sI_pi, sI_ai h0 x0]
    by_cases e : x = h
    · rw [if_pos ⟨rfl, e⟩, if_pos e]
    · rw [if_neg (fun q => e q.2), if_neg e]
  have c136 : ∀ x, 0 ≤ x → sI (sfK0 τ h B n) 226 x = if x = h then -1 else sI τ 226 x := fun x x0 => by
    rw [sfK0, sI_ai h0 x0, sI_pi, sI_ai1 (by decide)]
    by_cases e : x = h
    · rw [if_pos ⟨rfl, e⟩, if_pos e]
    · rw [if_neg (fun q => e q.2), if_neg e]
  have c142 : ∀ x, sI (sfK0 τ h B n) 239 x = sI τ 239 x := fun x => by
    rw [sfK0, sI_ai1 (by decide), sI_pi, sI_ai1 (by decide)]
  have cF : ∀ k, k ≠ 232 → sF (sfK0 τ h B n) k = sF τ k := fun k hk => by
    rw [sfK0, sF_ai, sF_pi, if_neg hk, sF_ai]
  have c141 : sF (sfK0 τ h B n) 232 = B + n := by
    rw [sfK0, sF_ai, sF_pi, if_pos rfl]
  have cfr : m_fr (fun k => [223, 226, 227, 228, 232, 239].contains k) τ (sfK0 τ h B n) := mf_ai (mf_pi (mf_ai mf_rfl rfl) rfl) rfl
  by_cases c : sF τ 228 = -1
  · simp only [sfK, if_pos c]
    generalize sfK0 τ h B n = υ at *
    refine ⟨fun x x0 => ?_, fun x x0 => ?_, fun x x0 => ?_, ?_, ?_, ?_, ?_, ?_, mf_ai (mf_pi (mf_pi cfr rfl) rfl) rfl⟩
    · rw [sI_ai1 (by decide), sI_pi, sI_pi, c136 x x0, if_neg (show ¬ (sF τ 228 ≠ -1 ∧ x = sF τ 228) from fun q => q.1 c)]
    · rw [sI_ai h0 x0, sI_pi, sI_pi, c142]
      by_cases e : x = h
      · rw [if_pos ⟨rfl, e⟩, if_pos e]
      · rw [if_neg (fun q => e q.2), if_neg e]
    · rw [sI_ai1 (by decide), sI_pi, sI_pi, c128 x x0]
    · rw [sF_ai, sF_pi, if_neg (by decide), sF_pi, if_pos rfl]
    · rw [sF_ai, sF_pi, if_pos rfl]
    · rw [sF_ai, sF_pi, if_neg (by decide), sF_pi, if_neg (by decide), cF _ (by decide)]
    · rw [sF_ai, sF_pi, if_neg (by decide), sF_pi, if_neg (by decide), cF _ (by decide)]
    · rw [sF_ai, sF_pi, if_neg (by decide), sF_pi, if_neg (by decide), c141]
  · simp only [sfK, if_neg c]
    have l1 : 0 ≤ sF τ 228 := l0.resolve_left c
    generalize sfK0 τ h B n = υ at *
    refine ⟨fun x x0 => ?_, fun x x0 => ?_, fun x x0 => ?_, ?_, ?_, ?_, ?_, ?_, mf_ai (mf_pi (mf_ai cfr rfl) rfl) rfl⟩
    · rw [sI_ai1 (by decide), sI_pi, sI_ai l1 x0, c136 x x0]
      by_cases e : x = sF τ 228
      · rw [if_pos ⟨rfl, e⟩, if_pos ⟨c, e⟩]
      · rw [if_neg (fun q => e q.2), if_neg (show ¬ (sF τ 228 ≠ -1 ∧ x = sF τ 228) from fun q => e q.2)]
    · rw [sI_ai h0 x0, sI_pi, sI_ai1 (by decide), c142]
      by_cases e : x = h
      · rw [if_pos ⟨rfl, e⟩, if_pos e]
      · rw [if_neg (fun q => e q.2), if_neg e]
    · rw [sI_ai1 (by decide), sI_pi, sI_ai1 (by decide), c128 x x0]
    · rw [sF_ai, sF_pi, if_neg (by decide), sF_ai, cF _ (by decide)]
    · rw [sF_ai, sF_pi, if_pos rfl]
    · rw [sF_ai, sF_pi, if_neg (by decide), sF_ai, cF _ (by decide)]
    · rw [sF_ai, sF_pi, if_neg (by decide), sF_ai, cF _ (by decide)]
    · rw [sF_ai, sF_pi, if_neg (by decide), sF_ai, c141]
/-- one function's captures come down -/
theorem sf43 {N : Nat} {σ : mS} {b v2 n B A : Int32} (r20 : Int32 → mS → Option mS) (b0 : 0 ≤ b) (b1 : b < 4000) (hn : sI σ 224 b = n) (n0 : 0 ≤ n) (n1 : n ≤ 12000) (hA : sI σ 223 b = A) (hB : sF σ 232 = B) (B0 : 0 ≤ B) (BA : B ≤ A) (A1 : A ≤ 12000) (An : A + n ≤ 12000) (l0 : sF σ 228 = -1 ∨ 0 ≤ sF σ 228 ∧ sF σ 228 < 4000) (j : Nat) : ∀ (i : Int32), 0 ≤ i → i ≤ n → (n.toInt - i.toInt).toNat < j → ∀ τ, m_fr (fun k => k == 231) σ τ → (∀ k, 0 ≤ k → k < i → sI τ 231 (B + k) = sI σ 231 (A + k)) → (∀ m, 0 ≤ m → m < B ∨ B + i ≤ m → sI τ 231 m = sI σ 231 m) → ∃ υ, xx3_sweepFunctions_b43 N r20 j b v2 i τ = r20 v2 (sfK υ b B n) ∧ m_fr (fun k => k == 231) σ υ ∧ (∀ k, 0 ≤ k → k < n → sI υ 231 (B + k) = sI σ 231 (A + k)) ∧ (∀ m, 0 ≤ m → m < B ∨ B + n ≤ m → sI υ 231 m = sI σ 231 m) := by
  induction j with
  | zero => intro i _ _ h; omega
  | succ j ih =>
    intro i i0 i1 hj τ fr q1 q2
    have e224 : sI τ 224 b = n := (mf_I fr (k := 224) rfl).trans hn
    have e223 : sI τ 223 b = A := (mf_I fr (k := 223) rfl).trans hA
    have e232 : sF τ 232 = B := (mf_F fr (k := 232) rfl).trans hB
    have e228 : sF τ 228 = sF σ 228 := mf_F fr rfl
    rw [xx3_sweepFunctions_b43, gd_in (by decide) b0 b1]
    simp only [lt, sF_fold, sI_fold]
    rw [e224]
    by_cases c : n ≤ i
    · have ei := Int32.le_antisymm i1 c
      subst ei
      refine ⟨τ, ?_, fr, q1, q2⟩
      have f232 : sF (md_ai τ 223 b.toNatClampNeg (sF τ 232)) 232 = B := e232
      have f224 : sI (md_ai τ 223 b.toNatClampNeg (sF τ 232)) 224 b = i := by rw [sI_ai1 (by decide)]; exact e224
      rw [if_pos c, gd_in (by decide) b0 b1, gd_in (by decide) b0 b1, f232, f224, gd_in (by decide) b0 b1]
      have f228 : sF (md_ai (md_pi (md_ai τ 223 b.toNatClampNeg (sF τ 232)) 232 (B + i)) 226 b.toNatClampNeg (-1)) 228 = sF τ 228 := rfl
      rw [f228, e232, sfK, sfK0]
      by_cases c2 : sF τ 228 = -1
      · rw [if_pos c2, if_pos c2, xx3_sweepFunctions_b141, lt, xx3_sweepFunctions_b174, gd_in (by decide) b0 b1, nar_b0]
        rfl
      · have lb : 0 ≤ sF τ 228 ∧ sF τ 228 < 4000 := by
          rw [e228] at c2 ⊢
          exact l0.resolve_left c2
        rw [if_neg c2, if_neg c2, gd_in (by decide) lb.1 lb.2, xx3_sweepFunctions_b141, lt, xx3_sweepFunctions_b174, gd_in (by decide) b0 b1, nar_b0]
        rfl
    · have ilt := Int32.not_le.mp c
      have A0 : 0 ≤ A := Int32.le_trans B0 BA
      have B1 : B ≤ 12000 := Int32.le_trans BA A1
      have Bn : B + n ≤ 12000 := by clear q1 q2 ih; lia
      have A' := so_1 A0 A1 n1 An i0 ilt
      have T := so_1 B0 B1 n1 Bn i0 ilt
      have il := tI_lt.mp ilt
      rw [if_neg c, gd_in (by decide) b0 b1, e223, gd_in (by decide) A'.1.1 A'.1.2, e232, gd_in (by decide) T.1.1 T.1.2]
      have rd : sI τ 231 (A + i) = sI σ 231 (A + i) := q2 _ A'.1.1 (.inr (by clear q1 q2 ih; lia))
      rw [rd]
      refine ih (i + 1) A'.2.1 A'.2.2.1 (by omega) _ (mf_ai fr rfl) (fun k k0 k1 => ?_) (fun m m0 m1 => ?_)
      · have kn : k ≤ n := by
          by_cases ck : k = i
          · rw [ck]; exact i1
          · exact Int32.le_trans (Int32.le_of_lt (A'.2.2.2.2 k k1 ck)) i1
        have D := ss_2 B0 (Int32.le_trans B1 (by decide)) (Int32.le_trans n1 (by decide)) i0 ilt k0 kn
        rw [sI_aj T.1.1 D.2]
        by_cases ck : k = i
        · rw [if_pos (D.1.mpr ck), ck]
        · rw [if_neg (fun h => ck (D.1.mp h))]
          exact q1 k k0 (A'.2.2.2.2 k k1 ck)
      · rw [sI_aj T.1.1 m0, if_neg (fun h => by
          have := T.1.1
          clear q1 q2 A' ih rd
          lia)]
        refine q2 m m0 ?_
        have := T.1.1
        clear q1 q2 A' ih rd
        lia
theorem SFI_d {σ τ : mS} {K R f : List Int32} {v A h : Int32} (S : SFI σ τ K (h :: R) f v A) : ∃ A', SFI σ (sfD τ h) K R (h :: f) (sI τ 226 h) A' := by
  obtain ⟨fr, O, L, ⟨E, lE⟩, b1, b2, r1, r2, r3, r4⟩ := S
  obtain ⟨q1, ⟨h0, h1⟩, q3, q4, q5, q6, q7⟩ := OLI_h O
  obtain ⟨d1, d2, d3, d4, d5, d6, d7, dfr⟩ := sfD_p (τ := τ) h0
  obtain ⟨l1, l2, l3, l4, l5⟩ := lE
  generalize sfD τ h = υ at *
  have i128 : ∀ x, sI υ 223 x = sI τ 223 x := fun x => mf_I dfr rfl
  have i131 : ∀ x, sI υ 231 x = sI τ 231 x := fun x => mf_I dfr rfl
  refine ⟨A + sI σ 224 h, mf_tr fr (mf_mono dfr (fun k hk => by
    simp only [sfF, List.contains_cons, List.contains_nil, Bool.or_eq_false_iff, beq_eq_false_iff_ne] at hk
    simp only [List.contains_cons, List.contains_nil, Bool.or_eq_false_iff, beq_eq_false_iff_ne]; (repeat' (first | exact trivial | omega | apply And.intro)))), ?_, ?_, ⟨E, l5⟩, by rw [d7]; exact Int32.le_trans b1 l3, l4, fun x hx => ?_, fun m m0 m1 => ?_, fun x hx k k0 k1 => ?_, fun x x0 x1 hx => ?_⟩
  · rw [d3, d4, d5, d6]
    exact OLI_f O (by decide) (by rw [d1 h h0, if_pos rfl]) (fun x x0 ne => by rw [d1 x x0, if_neg ne])
  · rw [d7]
    exact lay_congr L (fun x _ => ⟨i128 x, rfl⟩)
  · obtain ⟨u1, u2⟩ := r1 x (List.mem_cons_of_mem _ hx)
    have x0 : 0 ≤ x := (O.2.2.2.2.2.1 x (by simp [hx])).1
    rw [i128, d2 x x0, if_neg (fun e => q4 (by rw [← e]; exact hx))]
    exact ⟨u1, u2⟩
  · rw [i131]
    exact r2 m (Int32.le_trans l3 m0) m1
  · rw [i131, i128]
    exact r3 x hx k k0 k1
  · rw [d2 x x0]
    by_cases e : x = h
    · rw [if_pos e]
    · rw [if_neg e]
      exact r4 x x0 x1 (fun w => (List.mem_cons.mp w).elim e hx)
theorem sff_9 {B A n m : Int32} (b0 : 0 ≤ B) (b1 : B ≤ A) (a3 : A ≤ 12000) (n0 : 0 ≤ n) (n1 : A + n ≤ 12000) (an : A ≤ A + n) : B ≤ B + n ∧ B + n ≤ A + n ∧ B + n ≤ 12000 ∧ n ≤ 12000 ∧ (A + n ≤ m → B + n ≤ m) := ⟨by lia, by lia, by lia, by lia, fun h => by lia⟩
theorem SFI_k {σ τ : mS} {K R f : List Int32} {v A h : Int32} {υ0 : mS} (S : SFI σ τ K (h :: R) f v A) (f0 : m_fr (fun k => k == 231) τ υ0) (u1 : ∀ k, 0 ≤ k → k < sI σ 224 h → sI υ0 231 (sF τ 232 + k) = sI τ 231 (A + k)) (u2 : ∀ m, 0 ≤ m → m < sF τ 232 ∨ sF τ 232 + sI σ 224 h ≤ m → sI υ0 231 m = sI τ 231 m) : ∃ A', SFI σ (sfK υ0 h (sF τ 232) (sI σ 224 h)) (K ++ [h]) R f (sI τ 226 h) A' := by
  obtain ⟨fr, O, L, ⟨E, lE⟩, b1, b2, r1, r2, r3, r4⟩ := S
  obtain ⟨q1, ⟨h0, h1⟩, q3, q4, q5, q6, q7⟩ := OLI_h O
  obtain ⟨l1, l2, l3, l4, l5⟩ := lE
  have e128 : sI τ 223 h = A := (r1 h List.mem_cons_self).1.trans l1
  have Ll := lay_le L (by decide)
  have B0 : 0 ≤ sF τ 232 := Ll.1
  have A0 : 0 ≤ A := Int32.le_trans B0 b1
  have ar := fun m => sff_9 (m := m) B0 b1 b2 l2 l4 l3
  have g228 : sF υ0 228 = sF τ 228 := mf_F f0 rfl
  have g227 : sF υ0 227 = sF τ 227 := mf_F f0 rfl
  have g229 : sF υ0 229 = sF τ 229 := mf_F f0 rfl
  have g230 : sF υ0 230 = sF τ 230 := mf_F f0 rfl
  have g226 : ∀ x, sI υ0 226 x = sI τ 226 x := fun x => mf_I f0 rfl
  have g223 : ∀ x, sI υ0 223 x = sI τ 223 x := fun x => mf_I f0 rfl
  have g239 : ∀ x, sI υ0 239 x = sI τ 239 x := fun x => mf_I f0 rfl
  obtain ⟨k1, k2, k3, k5, k6, k7, k8, k9, kfr⟩ := sfK_p (τ := υ0) (h := h) (B := sF τ 232) (n := sI σ 224 h) h0 (by
    rw [g228]
    rcases q6 with w | ⟨_, w, _⟩
    · exact .inl w
    · exact .inr w)
  have k231 : ∀ m, sI (sfK υ0 h (sF τ 232) (sI σ 224 h)) 231 m = sI υ0 231 m := fun m => mf_I kfr rfl
  generalize sfK υ0 h (sF τ 232) (sI σ 224 h) = υ at *
  simp only [g228, g227, g229, g230, g226, g223, g239] at k1 k2 k3 k5 k7 k8
  generalize hB : sF τ 232 = B at *
  generalize hn : sI σ 224 h = n at *
  have nn : ∀ x, x ∈ K ++ h :: R ++ f → 0 ≤ x := fun x hx => (O.2.2.2.2.2.1 x hx).1
  refine ⟨A + n, mf_tr fr (mf_tr (mf_mono f0 (fun k hk => ?_)) (mf_mono kfr (fun k hk => ?_))), ?_, ?_, ⟨E, l5⟩, by rw [k9]; exact (ar 0).2.1, l4, fun x hx => ?_, fun m m0 m1 => ?_, fun x hx k k0 kl => ?_, fun x x0 x1 hx => ?_⟩
  · simp only [sfF, List.contains_cons, List.contains_nil, Bool.or_eq_false_iff, beq_eq_false_iff_ne] at hk
    simp only [beq_eq_false_iff_ne]; omega
  · simp only [sfF, List.contains_cons, List.contains_nil, Bool.or_eq_false_iff, beq_eq_false_iff_ne] at hk
    simp only [List.contains_cons, List.contains_nil, Bool.or_eq_false_iff, beq_eq_false_iff_ne]; (repeat' (first | exact trivial | omega | apply And.intro))
  · rw [k6, k7, k8]
    refine OLI_k O ?_ (fun c => ⟨by rw [k5, if_pos c], fun x x0 ne => ?_⟩) (fun c => ⟨by rw [k5, if_neg c], ?_, fun x x0 ne ne' => ?_⟩)
    · rw [k1 h h0, if_neg (fun q => ?_), if_pos rfl]
      rcases q6 with w | ⟨_, _, _, w, _⟩
      · exact q.1 w
      · exact w q.2.symm
    · rw [k1 x x0, if_neg (fun q => q.1 c), if_neg ne]
    · have l1' : 0 ≤ sF τ 228 := by
        rcases q6 with w | ⟨_, w, _⟩
        · exact absurd w c
        · exact w
      rw [k1 _ l1', if_pos ⟨c, rfl⟩]
    · rw [k1 x x0, if_neg (fun q => ne' q.2), if_neg ne]
  · rw [lay_app]
    refine ⟨B, lay_congr L (fun x hx => ⟨?_, rfl⟩), ?_⟩
    · rw [k3 x (nn x (by simp [hx])), if_neg (fun e => q3 (by rw [← e]; exact hx))]
    · rw [k9]
      exact ⟨by rw [k3 h h0, if_pos rfl], by rw [hn]; exact l2, by rw [hn]; exact (ar 0).1, by rw [hn]; exact (ar 0).2.2.1, by rw [hn]; rfl⟩
  · obtain ⟨w1, w2⟩ := r1 x (List.mem_cons_of_mem _ hx)
    have x0 : 0 ≤ x := nn x (by simp [hx])
    have ne : x ≠ h := fun e => q4 (by rw [← e]; exact hx)
    rw [k3 x x0, if_neg ne, k2 x x0, if_neg ne]
    exact ⟨w1, w2⟩
  · rw [k231, u2 m (Int32.le_trans A0 (Int32.le_trans l3 m0)) (.inr ((ar m).2.2.2.2 m0))]
    exact r2 m (Int32.le_trans l3 m0) m1
  · rw [k231]
    rcases List.mem_append.mp hx with w | w
    · obtain ⟨z1, z2, z3, z4⟩ := Ll.2.2 x w
      have x0 : 0 ≤ x := nn x (by simp [w])
      have ne : x ≠ h := fun e => q3 (by rw [← e]; exact w)
      have kk : 0 ≤ sI τ 223 x + k ∧ sI τ 223 x + k < B := by
        clear ar r1 r2 r3 r4 k1 k2 k3 nn O L q6 q7 u1 u2 g223 g226 g239 k231
        exact ⟨by lia, by lia⟩
      rw [k3 x x0, if_neg ne, u2 _ kk.1 (.inl kk.2)]
      exact r3 x w k k0 kl
    · rw [List.mem_singleton] at w
      subst w
      rw [hn] at kl
      rw [k3 x h0, if_pos rfl, u1 k k0 kl, l1]
      refine r2 _ ?_ ?_
      · clear ar r1 r2 r3 r4 k1 k2 k3 nn O L q6 q7 u1 u2 g223 g226 g239 k231
        lia
      · clear ar r1 r2 r3 r4 k1 k2 k3 nn O L q6 q7 u1 u2 g223 g226 g239 k231
        lia
  · rw [k2 x x0]
    by_cases e : x = h
    · rw [if_pos e]
    · rw [if_neg e]
      exact r4 x x0 x1 (fun w => (List.mem_cons.mp w).elim e hx)
theorem sf20 {N : Nat} (hN : BIG ≤ N) {σ : mS} : ∀ (R : List Int32) (n : Nat) (K f : List Int32) (v A : Int32) (τ : mS), R.length < n → SFI σ τ K R f v A → ∃ τ' f' A', xx3_sweepFunctions_b20 N n v τ = some τ' ∧ SFI σ τ' (K ++ R.filter (mkd σ 239)) [] f' (-1) A'
  | [], n, K, f, v, A, τ, hn, S => by
    obtain ⟨n, rfl⟩ : ∃ j, n = j + 1 := ⟨n - 1, by simp at hn; omega⟩
    have e : v = -1 := S.2.1.2.2.2.1
    subst e
    refine ⟨τ, f, A, ?_, by simpa using S⟩
    rw [xx3_sweepFunctions_b20, if_pos rfl]
  | h :: R, n, K, f, v, A, τ, hn, S => by
    obtain ⟨n, rfl⟩ : ∃ j, n = j + 1 := ⟨n - 1, by simp at hn; omega⟩
    obtain ⟨q1, ⟨h0, h1⟩, q3, q4, q5, q6, q7⟩ := OLI_h S.2.1
    subst q1
    have v1 : ¬ v = -1 := fun e => by rw [e] at h0; exact absurd h0 (by decide)
    have e142 : sI τ 239 v = sI σ 239 v := (S.2.2.2.2.2.2.1 v List.mem_cons_self).2
    rw [xx3_sweepFunctions_b20, if_neg v1, gd_in (by decide) h0 h1]
    simp only [lt, sF_fold, sI_fold]
    rw [gd_in (by decide) h0 h1, e142]
    by_cases c : sI σ 239 v = 0
    · obtain ⟨A', S'⟩ := SFI_d S
      obtain ⟨τ', f', A2, e, P⟩ := sf20 (N := N) hN R n K (v :: f) (sI τ 226 v) A' _ (by simp at hn; omega) S'
      refine ⟨τ', f', A2, ?_, ?_⟩
      · rw [← e, if_pos c, gd_in (by decide) h0 h1, xx3_sweepFunctions_b174, gd_in (by decide) h0 h1]
        rfl
      · have : (v :: R).filter (mkd σ 239) = R.filter (mkd σ 239) := by
          rw [List.filter_cons, if_neg (by simp [mkd, c])]
        rw [this]; exact P
    · have S2 := S
      obtain ⟨fr, O, L, ⟨E, l1, l2, l3, l4, l5⟩, b1, b2, r1, _⟩ := S2
      have e128 : sI τ 223 v = A := (r1 v List.mem_cons_self).1.trans l1
      have e224 : sI τ 224 v = sI σ 224 v := mf_I fr rfl
      have Ll := lay_le L (by decide)
      have ar := sff_9 (m := 0) Ll.1 b1 b2 l2 l4 l3
      obtain ⟨υ0, eυ, f0, u1, u2⟩ := sf43 (N := N) (σ := τ) (b := v) (v2 := sI τ 226 v) (n := sI σ 224 v) (B := sF τ 232) (A := A) (xx3_sweepFunctions_b20 N n) h0 h1 e224 l2 ar.2.2.2.1 e128 rfl Ll.1 b1 b2 l4 (by
        rcases q6 with w | ⟨_, w1, w2, _⟩
        · exact .inl w
        · exact .inr ⟨w1, w2⟩) N 0 (Int32.le_refl _) l2 (big_d hN) τ mf_rfl (fun k k0 k1 => absurd (Int32.lt_of_le_of_lt k0 k1) Int32.lt_irrefl) (fun m _ _ => rfl)
      obtain ⟨A', S'⟩ := SFI_k S f0 u1 u2
      obtain ⟨τ', f', A2, e, P⟩ := sf20 (N := N) hN R n (K ++ [v]) f (sI τ 226 v) A' _ (by simp at hn; omega) S'
      refine ⟨τ', f', A2, ?_, ?_⟩
      · rw [← e, if_neg c, eυ]
      · have : (v :: R).filter (mkd σ 239) = v :: R.filter (mkd σ 239) := by
          rw [List.filter_cons, if_pos (by simp [mkd, c])]
        rw [this, show K ++ v :: R.filter (mkd σ 239) = K ++ [v] ++ R.filter (mkd σ 239) by simp]
        exact P
/-- the functions that are not marked go -/
theorem sweepF_x {N : Nat} (hN : BIG ≤ N) {σ : mS} {o f : List Int32} (C : CX σ o f) (hz : ∀ x, 0 ≤ x → x < 4000 → x ∉ o → sI σ 239 x = 0) : ∃ τ f', xx3_sweepFunctions N σ = some τ ∧ CX τ (o.filter (mkd σ 239)) f' ∧ (∀ x, x ∈ o.filter (mkd σ 239) → ∀ k, 0 ≤ k → k < sI σ 224 x → sI τ 231 (sI τ 223 x + k) = sI σ 231 (sI σ 223 x + k)) ∧ (sF τ 232).toInt = ((o.filter (mkd σ 239)).map (fun x => (sI σ 224 x).toInt)).sum ∧ (∀ x, 0 ≤ x → x < 4000 → sI τ 239 x = 0) ∧ m_fr sfF σ τ := by
  obtain ⟨O, L⟩ := C
  have S0 : SFI σ (md_pi (md_pi (md_pi σ 227 (-1)) 228 (-1)) 232 0) [] o f (sF σ 227) 0 := by
    have Ll := lay_le L (by decide)
    refine ⟨mf_pi (mf_pi (mf_pi mf_rfl rfl) rfl) rfl, OLI_0 O, by show (0 : Int32) = _; simp only [sF_pi, sF_pl, sF_ai, sF_al, sG_pi, sG_pl, sG_ai, sG_al, sI_pi, sI_pl, sI_al, sI_ai1, sI_ai2, sJ_pi, sJ_pl, sJ_ai, sJ_al1, sJ_al2, Nat.reduceEqDiff, if_true, if_false, ne_eq, not_false_eq_true, ite_true, ite_false], ⟨_, L⟩, by simp only [sF_pi, sF_pl, sF_ai, sF_al, sG_pi, sG_pl, sG_ai, sG_al, sI_pi, sI_pl, sI_al, sI_ai1, sI_ai2, sJ_pi, sJ_pl, sJ_ai, sJ_al1, sJ_al2, Nat.reduceEqDiff, if_true, if_false, ne_eq, not_false_eq_true, ite_true, ite_false]; decide, by decide, fun x _ => ⟨by simp only [sF_pi, sF_pl, sF_ai, sF_al, sG_pi, sG_pl, sG_ai, sG_al, sI_pi, sI_pl, sI_al, sI_ai1, sI_ai2, sJ_pi, sJ_pl, sJ_ai, sJ_al1, sJ_al2, Nat.reduceEqDiff, if_true, if_false, ne_eq, not_false_eq_true, ite_true, ite_false], by simp only [sF_pi, sF_pl, sF_ai, sF_al, sG_pi, sG_pl, sG_ai, sG_al, sI_pi, sI_pl, sI_al, sI_ai1, sI_ai2, sJ_pi, sJ_pl, sJ_ai, sJ_al1, sJ_al2, Nat.reduceEqDiff, if_true, if_false, ne_eq, not_false_eq_true, ite_true, ite_false]⟩, fun m _ _ => by simp only [sF_pi, sF_pl, sF_ai, sF_al, sG_pi, sG_pl, sG_ai, sG_al, sI_pi, sI_pl, sI_al, sI_ai1, sI_ai2, sJ_pi, sJ_pl, sJ_ai, sJ_al1, sJ_al2, Nat.reduceEqDiff, if_true, if_false, ne_eq, not_false_eq_true, ite_true, ite_false], fun x hx => absurd hx (by simp), fun x x0 x1 hx => by simp only [sF_pi, sF_pl, sF_ai, sF_al, sG_pi, sG_pl, sG_ai, sG_al, sI_pi, sI_pl, sI_al, sI_ai1, sI_ai2, sJ_pi, sJ_pl, sJ_ai, sJ_al1, sJ_al2, Nat.reduceEqDiff, if_true, if_false, ne_eq, not_false_eq_true, ite_true, ite_false]; exact hz x x0 x1 hx⟩
  obtain ⟨τ, f', A', e, S⟩ := sf20 (N := N) hN o N [] f (sF σ 227) 0 _ (by
    have := O.2.2.2.2.2.1
    rw [tI_cl, show (4000 : Int32).toInt = 4000 from rfl, List.length_append] at this
    simp only [BIG] at hN
    omega) S0
  rw [List.nil_append] at S
  obtain ⟨fr, OI, L', _, b1, b2, _, _, r3, r4⟩ := S
  obtain ⟨_, O'⟩ := OLI_e OI
  have e224 : ∀ x, sI τ 224 x = sI σ 224 x := fun x => mf_I fr rfl
  refine ⟨τ, f', ?_, ⟨O', lay_congr L' (fun x _ => ⟨rfl, e224 x⟩)⟩, r3, ?_, fun x x0 x1 => r4 x x0 x1 (by simp), fr⟩
  · rw [← e]
    rfl
  · rw [lay_sm L' (by decide) (by decide)]
    rw [show (0 : Int32).toInt = 0 from rfl, Int.zero_add]
