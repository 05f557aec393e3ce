/-! LAYER 2: heaps of holes -/
def hp (L R K : Int32 → Int32) : Nat → Int32 → List Int32 → Prop
  | 0, r, l => r = -1 ∧ l = []
  | n + 1, r, l => (r = -1 ∧ l = []) ∨ ∃ la lb, 0 ≤ r ∧ l.Perm (r :: (la ++ lb)) ∧ hp L R K n (L r) la ∧ hp L R K n (R r) lb ∧ ∀ x, x ∈ la ++ lb → K r ≤ K x
theorem hp_perm {L R K : Int32 → Int32} : ∀ {n : Nat} {r : Int32} {l l' : List Int32}, hp L R K n r l → l.Perm l' → hp L R K n r l'
  | 0, _, _, _, h, p => ⟨h.1, by rw [h.2] at p; exact List.nil_perm.mp p⟩
  | n + 1, _, _, _, h, p => by
    rcases h with ⟨h1, h2⟩ | ⟨la, lb, h1, h2, h3⟩
    · exact .inl ⟨h1, by rw [h2] at p; exact List.nil_perm.mp p⟩
    · exact .inr ⟨la, lb, h1, p.symm.trans h2, h3⟩
theorem hp_mono {L R K : Int32 → Int32} : ∀ {n : Nat} {r : Int32} {l : List Int32}, hp L R K n r l → hp L R K (n + 1) r l
  | 0, _, _, h => .inl h
  | n + 1, _, _, h => by
    rcases h with h | ⟨la, lb, h1, h2, h3, h4, h5⟩
    · exact .inl h
    · exact .inr ⟨la, lb, h1, h2, hp_mono h3, hp_mono h4, h5⟩
theorem hp_le {L R K : Int32 → Int32} {n m : Nat} {r : Int32} {l : List Int32} (h : hp L R K n r l) (hm : n ≤ m) : hp L R K m r l := by
  induction m with
  | zero => rw [show n = 0 by omega] at h; exact h
  | succ m ih =>
    by_cases c : n = m + 1
    · subst c; exact h
    · exact hp_mono (ih (by omega))
theorem hp_congr {L R K L' R' K' : Int32 → Int32} : ∀ {n : Nat} {r : Int32} {l : List Int32}, hp L R K n r l → (∀ x, x ∈ l → L' x = L x ∧ R' x = R x ∧ K' x = K x) → hp L' R' K' n r l
  | 0, _, _, h, _ => h
  | n + 1, r, l, h, c => by
    rcases h with h | ⟨la, lb, h1, h2, h3, h4, h5⟩
    · exact .inl h
    · have cr := c r (h2.mem_iff.mpr List.mem_cons_self)
      have ca : ∀ x, x ∈ la → x ∈ l := fun x hx => h2.mem_iff.mpr (List.mem_cons_of_mem _ (List.mem_append_left _ hx))
      have cb : ∀ x, x ∈ lb → x ∈ l := fun x hx => h2.mem_iff.mpr (List.mem_cons_of_mem _ (List.mem_append_right _ hx))
      refine .inr ⟨la, lb, h1, h2, ?_, ?_, fun x hx => ?_⟩
      · rw [cr.1]; exact hp_congr h3 (fun x hx => c x (ca x hx))
      · rw [cr.2.1]; exact hp_congr h4 (fun x hx => c x (cb x hx))
      · rw [cr.2.2]
        rcases List.mem_append.mp hx with q | q
        · rw [(c x (ca x q)).2.2]; exact h5 x hx
        · rw [(c x (cb x q)).2.2]; exact h5 x hx
theorem hp_nil {L R K : Int32 → Int32} : ∀ {n : Nat} {l : List Int32}, hp L R K n (-1) l → l = []
  | 0, _, h => h.2
  | n + 1, _, h => by
    rcases h with h | ⟨la, lb, h1, _⟩
    · exact h.2
    · exact absurd h1 (by decide)
theorem hp_out {L R K : Int32 → Int32} {n : Nat} {r : Int32} {l : List Int32} (h : hp L R K n r l) (hr : r ≠ -1) : ∃ la lb m, 0 ≤ r ∧ l.Perm (r :: (la ++ lb)) ∧ hp L R K m (L r) la ∧ hp L R K m (R r) lb ∧ ∀ x, x ∈ la ++ lb → K r ≤ K x := by
  cases n with
  | zero => exact absurd h.1 hr
  | succ n =>
    rcases h with h | ⟨la, lb, h1, h2, h3, h4, h5⟩
    · exact absurd h.1 hr
    · exact ⟨la, lb, n, h1, h2, h3, h4, h5⟩
theorem hp_min {L R K : Int32 → Int32} {n : Nat} {r : Int32} {l : List Int32} (h : hp L R K n r l) (hr : r ≠ -1) : r ∈ l ∧ ∀ x, x ∈ l → K r ≤ K x := by
  obtain ⟨la, lb, m, h1, h2, h3, h4, h5⟩ := hp_out h hr
  refine ⟨h2.mem_iff.mpr List.mem_cons_self, fun x hx => ?_⟩
  rcases List.mem_cons.mp (h2.mem_iff.mp hx) with q | q
  · rw [q]; lia
  · exact h5 x q
def hR (k : Nat) : Bool := k == 205 || k == 206
theorem mrg_lp {N : Nat} : ∀ (k : Nat) (σ : mS) (a b root : Int32) (la lb : List Int32) (n m : Nat), hp (sI σ 205) (sI σ 206) (sI σ 204) n a la → hp (sI σ 205) (sI σ 206) (sI σ 204) m b lb → a ≠ -1 → b ≠ -1 → sI σ 204 a ≤ sI σ 204 b → (la ++ lb).Nodup → (∀ x, x ∈ la ++ lb → 0 ≤ x ∧ x < 24000) → la.length + lb.length ≤ k → ∃ τ n', xx3_merged_b65 N k a b root (sI σ 206 a) σ = some (root, τ) ∧ hp (sI τ 205) (sI τ 206) (sI τ 204) n' a (la ++ lb) ∧ (∀ x, 0 ≤ x → x ∉ la ++ lb → sI τ 205 x = sI σ 205 x ∧ sI τ 206 x = sI σ 206 x) ∧ m_fr hR σ τ
  | 0, σ, a, b, root, la, lb, n, m, ha, hb, na, nb, hk, nd, rg, len => by
    have := (hp_min ha na).1
    have : 0 < la.length := List.length_pos_of_mem this
    omega
  | k + 1, σ, a, b, root, la, lb, n, m, ha, hb, na, nb, hk, nd, rg, len => by
    obtain ⟨l1, l2, n1, a0, pa, h1, h2, h3⟩ := hp_out ha na
    have ma := hp_min ha na
    have mb := hp_min hb nb
    have ra := rg a (List.mem_append_left _ ma.1)
    have rb := rg b (List.mem_append_right _ mb.1)
    obtain ⟨ra1, ra2⟩ := ra
    obtain ⟨rb1, rb2⟩ := rb
    have pall : (la ++ lb).Perm (a :: (l1 ++ l2 ++ lb)) := by
      have := pa.append_right lb
      simpa using this
    have nd' : (a :: (l1 ++ l2 ++ lb)).Nodup := pall.nodup_iff.mp nd
    obtain ⟨nda, ndr⟩ := List.nodup_cons.mp nd'
    have lenP := pa.length_eq
    simp only [List.length_cons, List.length_append] at lenP
    have kr : ∀ x, x ∈ l2 → sI σ 204 a ≤ sI σ 204 x := fun x hx => h3 x (List.mem_append_right _ hx)
    -- the state behind one step, whatever comes to the left side
    have stp : ∀ (v : Int32), (∀ x, 0 ≤ x → sI (md_ai (md_ai σ 206 a.toNatClampNeg (sI σ 205 a)) 205 a.toNatClampNeg v) 205 x = if x = a then v else sI σ 205 x) ∧ (∀ x, 0 ≤ x → sI (md_ai (md_ai σ 206 a.toNatClampNeg (sI σ 205 a)) 205 a.toNatClampNeg v) 206 x = if x = a then sI σ 205 a else sI σ 206 x) ∧ (∀ x, sI (md_ai (md_ai σ 206 a.toNatClampNeg (sI σ 205 a)) 205 a.toNatClampNeg v) 204 x = sI σ 204 x) := by
      intro v
      refine ⟨fun x x0 => ?_, fun x x0 => ?_, fun x => ?_⟩
      · simp (disch := lia) only [sF_pi, sF_pl, sF_ai, sF_al, sG_pi, sG_pl, sG_ai, sG_al, sI_pi, sI_pl, sI_al, sI_ai1, sI_ai2, sJ_pi, sJ_pl, sJ_ai, sJ_al1, sJ_al2, Nat.reduceEqDiff, if_true, if_false, ne_eq, not_false_eq_true, ite_true, ite_false, sI_ai, true_and]
      · simp (disch := lia) only [sF_pi, sF_pl, sF_ai, sF_al, sG_pi, sG_pl, sG_ai, sG_al, sI_pi, sI_pl, sI_al, sI_ai1, sI_ai2, sJ_pi, sJ_pl, sJ_ai, sJ_al1, sJ_al2, Nat.reduceEqDiff, if_true, if_false, ne_eq, not_false_eq_true, ite_true, ite_false, sI_ai, true_and]
      · simp (disch := lia) only [sF_pi, sF_pl, sF_ai, sF_al, sG_pi, sG_pl, sG_ai, sG_al, sI_pi, sI_pl, sI_al, sI_ai1, sI_ai2, sJ_pi, sJ_pl, sJ_ai, sJ_al1, sJ_al2, Nat.reduceEqDiff, if_true, if_false, ne_eq, not_false_eq_true, ite_true, ite_false]
    have fr1 : ∀ v, m_fr hR σ (md_ai (md_ai σ 206 a.toNatClampNeg (sI σ 205 a)) 205 a.toNatClampNeg v) := fun v => mf_ai (mf_ai mf_rfl rfl) rfl
    rw [xx3_merged_b65]
    by_cases c : sI σ 206 a = -1
    · have e2 : l2 = [] := by rw [c] at h2; exact hp_nil h2
      subst e2
      obtain ⟨s1, s2, s3⟩ := stp b
      refine ⟨_, max n1 m + 1, by simp (disch := lia) only [lt, gd_in, if_pos, if_neg, ↓reduceIte, gd_z0, gd_z1, gd_tt, sF_fold, sG_fold, sI_fold, sJ_fold, sF_pi, sF_pl, sF_ai, sF_al, sG_pi, sG_pl, sG_ai, sG_al, sI_pi, sI_pl, sI_al, sI_ai1, sI_ai2, sJ_pi, sJ_pl, sJ_ai, sJ_al1, sJ_al2, Nat.reduceEqDiff, if_true, if_false, ne_eq, not_false_eq_true, ite_true, ite_false, c], ?_, fun x x0 x1 => ?_, fr1 b⟩
      · have nb1 : ∀ x, x ∈ lb → x ≠ a ∧ 0 ≤ x := fun x hx => ⟨fun q => nda (by rw [← q]; simp [hx]), (rg x (List.mem_append_right _ hx)).1⟩
        have n11 : ∀ x, x ∈ l1 → x ≠ a ∧ 0 ≤ x := fun x hx => ⟨fun q => nda (by rw [← q]; simp [hx]), (rg x (pall.mem_iff.mpr (by simp [hx]))).1⟩
        refine .inr ⟨lb, l1, a0, ?_, ?_, ?_, fun x hx => ?_⟩
        · refine pall.trans (List.Perm.cons _ ?_)
          simpa using List.perm_append_comm
        · rw [s1 a ra1, if_pos rfl]
          refine hp_le (hp_congr hb (fun x hx => ⟨?_, ?_, s3 x⟩)) (by omega)
          · rw [s1 x (nb1 x hx).2, if_neg (nb1 x hx).1]
          · rw [s2 x (nb1 x hx).2, if_neg (nb1 x hx).1]
        · rw [s2 a ra1, if_pos rfl]
          refine hp_le (hp_congr h1 (fun x hx => ⟨?_, ?_, s3 x⟩)) (by omega)
          · rw [s1 x (n11 x hx).2, if_neg (n11 x hx).1]
          · rw [s2 x (n11 x hx).2, if_neg (n11 x hx).1]
        · rw [s3, s3]
          rcases List.mem_append.mp hx with q | q
          · have := mb.2 x q; lia
          · exact h3 x (List.mem_append_left _ q)
      · have : x ≠ a := fun q => x1 (by rw [q]; exact List.mem_append_left _ ma.1)
        rw [s1 x x0, s2 x x0, if_neg this, if_neg this]
        exact ⟨rfl, rfl⟩
    · have mr := hp_min h2 c
      have rr := rg _ (pall.mem_iff.mpr (by simp [mr.1]) : sI σ 206 a ∈ la ++ lb)
      obtain ⟨rr1, rr2⟩ := rr
      have key : ∀ (x y : Int32) (lx ly : List Int32) (nx ny : Nat), hp (sI σ 205) (sI σ 206) (sI σ 204) nx x lx → hp (sI σ 205) (sI σ 206) (sI σ 204) ny y ly → x ≠ -1 → y ≠ -1 → sI σ 204 x ≤ sI σ 204 y → (lx ++ ly).Perm (l2 ++ lb) → ∃ τ n', xx3_merged_b65 N k x y root (sI (md_ai (md_ai σ 206 a.toNatClampNeg (sI σ 205 a)) 205 a.toNatClampNeg x) 206 x) (md_ai (md_ai σ 206 a.toNatClampNeg (sI σ 205 a)) 205 a.toNatClampNeg x) = some (root, τ) ∧ hp (sI τ 205) (sI τ 206) (sI τ 204) n' a (la ++ lb) ∧ (∀ x, 0 ≤ x → x ∉ la ++ lb → sI τ 205 x = sI σ 205 x ∧ sI τ 206 x = sI σ 206 x) ∧ m_fr hR σ τ := by
        intro x y lx ly nx ny hx hy nx' ny' hk' pp
        obtain ⟨s1, s2, s3⟩ := stp x
        have mem2 : ∀ z, z ∈ lx ++ ly → z ≠ a ∧ 0 ≤ z ∧ z < 24000 := fun z hz => by
          have hz' := pp.mem_iff.mp hz
          have q : z ∈ l1 ++ l2 ++ lb := by
            rcases List.mem_append.mp hz' with w | w <;> simp [w]
          have r := rg z (pall.mem_iff.mpr (List.mem_cons_of_mem _ q))
          exact ⟨fun w => nda (by rw [← w]; exact q), r.1, r.2⟩
        have cg : ∀ z, z ∈ lx ++ ly → sI (md_ai (md_ai σ 206 a.toNatClampNeg (sI σ 205 a)) 205 a.toNatClampNeg x) 205 z = sI σ 205 z ∧ sI (md_ai (md_ai σ 206 a.toNatClampNeg (sI σ 205 a)) 205 a.toNatClampNeg x) 206 z = sI σ 206 z ∧ sI (md_ai (md_ai σ 206 a.toNatClampNeg (sI σ 205 a)) 205 a.toNatClampNeg x) 204 z = sI σ 204 z := fun z hz => by
          have w := mem2 z hz
          rw [s1 z w.2.1, s2 z w.2.1, if_neg w.1, if_neg w.1]
          exact ⟨rfl, rfl, s3 z⟩
        have ndl : (lx ++ ly).Nodup := pp.nodup_iff.mpr (by
          have := List.append_assoc l1 l2 lb
          rw [this] at ndr
          exact (List.nodup_append.mp ndr).2.1)
        have lenp := pp.length_eq
        simp only [List.length_append] at lenp
        obtain ⟨τ, n', e1, e2, e3, e4⟩ := mrg_lp k _ x y root lx ly nx ny (hp_congr hx (fun z hz => cg z (List.mem_append_left _ hz))) (hp_congr hy (fun z hz => cg z (List.mem_append_right _ hz))) nx' ny' (by rw [s3, s3]; exact hk') ndl (fun z hz => (mem2 z hz).2) (by omega)
        have aout : a ∉ lx ++ ly := fun q => (mem2 a q).1 rfl
        have la' := e3 a ra1 aout
        have fI : ∀ z, sI τ 204 z = sI σ 204 z := fun z => by rw [mf_I e4 rfl, s3]
        refine ⟨τ, max n' n1 + 1, e1, ?_, fun z z0 z1 => ?_, mf_tr (fr1 x) e4⟩
        · refine .inr ⟨lx ++ ly, l1, a0, ?_, ?_, ?_, fun z hz => ?_⟩
          · refine pall.trans (List.Perm.cons _ ?_)
            rw [List.append_assoc]
            refine (List.Perm.append_left l1 pp.symm).trans ?_
            exact List.perm_append_comm
          · rw [la'.1, s1 a ra1, if_pos rfl]
            exact hp_le e2 (by omega)
          · rw [la'.2, s2 a ra1, if_pos rfl]
            refine hp_le (hp_congr h1 (fun z hz => ?_)) (by omega)
            have q1 : z ∈ l1 ++ l2 ++ lb := by simp [hz]
            have r := rg z (pall.mem_iff.mpr (List.mem_cons_of_mem _ q1))
            have za : z ≠ a := fun w => nda (by rw [← w]; exact q1)
            have zo : z ∉ lx ++ ly := fun w => by
              have w' := pp.mem_iff.mp w
              rw [List.append_assoc] at ndr
              exact (List.nodup_append.mp ndr).2.2 z hz z w' rfl
            rw [(e3 z r.1 zo).1, (e3 z r.1 zo).2, s1 z r.1, s2 z r.1, if_neg za, if_neg za]
            exact ⟨rfl, rfl, fI z⟩
          · rw [fI, fI]
            rcases List.mem_append.mp hz with q | q
            · rcases List.mem_append.mp (pp.mem_iff.mp q) with w | w
              · exact kr z w
              · have := mb.2 z w; lia
            · exact h3 z (List.mem_append_left _ q)
        · have za : z ≠ a := fun q => z1 (by rw [q]; exact List.mem_append_left _ ma.1)
          have zo : z ∉ lx ++ ly := fun w => z1 (pall.mem_iff.mpr (by
            have w' := pp.mem_iff.mp w
            rcases List.mem_append.mp w' with v | v <;> simp [v]))
          rw [(e3 z z0 zo).1, (e3 z z0 zo).2, s1 z z0, s2 z z0, if_neg za, if_neg za]
          exact ⟨rfl, rfl⟩
      by_cases d : sI σ 204 b < sI σ 204 (sI σ 206 a)
      · have rb' : b ≠ sI σ 206 a := fun q => by rw [← q] at d; lia
        have kk := key b (sI σ 206 a) lb l2 m n1 hb h2 nb c (by lia) List.perm_append_comm
        clear key stp
        simp (disch := lia) only [lt, gd_in, if_pos, if_neg, ↓reduceIte, gd_z0, gd_z1, gd_tt, sF_fold, sG_fold, sI_fold, sJ_fold, sF_pi, sF_pl, sF_ai, sF_al, sG_pi, sG_pl, sG_ai, sG_al, sI_pi, sI_pl, sI_al, sI_ai1, sI_ai2, sJ_pi, sJ_pl, sJ_ai, sJ_al1, sJ_al2, Nat.reduceEqDiff, if_true, if_false, ne_eq, not_false_eq_true, ite_true, ite_false, xx3_merged_b95, xx3_merged_b111]
        exact kk
      · have kk := key (sI σ 206 a) b l2 lb n1 m h2 hb c nb (by lia) (List.Perm.refl _)
        clear key stp
        simp (disch := lia) only [lt, gd_in, if_pos, if_neg, ↓reduceIte, gd_z0, gd_z1, gd_tt, sF_fold, sG_fold, sI_fold, sJ_fold, sF_pi, sF_pl, sF_ai, sF_al, sG_pi, sG_pl, sG_ai, sG_al, sI_pi, sI_pl, sI_al, sI_ai1, sI_ai2, sJ_pi, sJ_pl, sJ_ai, sJ_al1, sJ_al2, Nat.reduceEqDiff, if_true, if_false, ne_eq, not_false_eq_true, ite_true, ite_false, xx3_merged_b95, xx3_merged_b111]
        exact kk
