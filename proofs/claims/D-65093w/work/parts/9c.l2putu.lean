/-! LAYER 2: the system's tables: put, as a whole -/
/-- the entries that stay before a new one comes -/
def keepL (σ : mS) (l : List Int32) : List Int32 := if 8 ≤ (l.filter (fun e => !alv σ e)).length ∧ (l.filter (alv σ)).length ≤ (l.filter (fun e => !alv σ e)).length then l.filter (alv σ) else l
def hP (k : Nat) : Bool := hY k || (hZ k || (hE k || hV k))
theorem put_x {N : Nat} (hN : BIG ≤ N) {σ : mS} {ts ff fh : List Int32} {es ps hs : Int32 → List Int32} {t kt tag : Int32} {k v : Int64} (M : MX σ ts es ps hs ff fh) (hd : dst σ) (ht : t ∈ ts) (hk : k_ok σ kt k) (g0 : 0 ≤ tag) (g1 : tag ≤ 8) :
    (∃ e τ hs' fh', e ∈ es t ∧ k_eq σ (sI σ 212 e) (sJ σ 213 e) kt k ∧ xx3_put N σ t kt k tag v = some (.ok τ) ∧ MX τ ts es ps hs' ff fh' ∧ (∀ x, 0 ≤ x → sI τ 214 x = if x = e then tag else sI σ 214 x) ∧ (∀ x, 0 ≤ x → sJ τ 215 x = if x = e then v else sJ σ 215 x) ∧ m_fr (fun k => hZ k || hV k) σ τ)
    ∨ ((∀ x, x ∈ es t → ¬ k_eq σ (sI σ 212 x) (sJ σ 213 x) kt k) ∧ tag = 0 ∧ xx3_put N σ t kt k tag v = some (.ok σ))
    ∨ ((∀ x, x ∈ es t → ¬ k_eq σ (sI σ 212 x) (sJ σ 213 x) kt k) ∧ tag ≠ 0 ∧ (sF σ 220).toInt - ((es t).length - (keepL σ (es t)).length : Int) = 20000 ∧ ∃ τ ps' ff', xx3_put N σ t kt k tag v = some (.error (1101, τ)) ∧ MX τ ts (fU es t (keepL σ (es t))) ps' hs ff' fh ∧ sF τ 220 = 20000 ∧ m_fr hY σ τ)
    ∨ ((∀ x, x ∈ es t → ¬ k_eq σ (sI σ 212 x) (sJ σ 213 x) kt k) ∧ tag ≠ 0 ∧ (sF σ 220).toInt - ((es t).length - (keepL σ (es t)).length : Int) ≠ 20000 ∧ ∃ e τ ps' hs' ff' fh', xx3_put N σ t kt k tag v = some (.ok τ) ∧ (∀ s, s ∈ ts → e ∉ es s ∨ e ∉ keepL σ (es t)) ∧ MX τ ts (fU es t (keepL σ (es t) ++ [e])) ps' hs' ff' fh' ∧ (∀ x, 0 ≤ x → sI τ 212 x = if x = e then kt else sI σ 212 x) ∧ (∀ x, 0 ≤ x → sJ τ 213 x = if x = e then k else sJ σ 213 x) ∧ (∀ x, 0 ≤ x → sI τ 214 x = if x = e then tag else sI σ 214 x) ∧ (∀ x, 0 ≤ x → sJ τ 215 x = if x = e then v else sJ σ 215 x) ∧ (sF τ 220).toInt = (sF σ 220).toInt - ((es t).length - (keepL σ (es t)).length : Int) + 1 ∧ m_fr hP σ τ) := by
  obtain ⟨r, f1, f2⟩ := find_x hN hd M.1 ht hk
  obtain ⟨t0, t1, _⟩ := M.2.1.1 t ht
  obtain ⟨_, _, _, w4, w5⟩ := M.2.2.2.2.1 t ht
  rcases f2 with ⟨a, b⟩ | ⟨a, b⟩
  · left
    have ra := M.1.1 t ht r a
    have rn : r ≠ -1 := by have := ra.1; lia
    obtain ⟨τ, hs', fh', q1, q2, q3, q4, q5⟩ := put_old hN (v := v) M hd ht a b g0 g1
    refine ⟨r, τ, hs', fh', a, b, ?_, q2, q3, q4, q5⟩
    rw [xx3_put, f1]
    simp only [bd, if_neg rn]
    exact q1
  · right
    have pre : xx3_put N σ t kt k tag v = xx3_put_b20 N t kt k tag v (-1) 1 σ := by
      rw [xx3_put, f1, a]
      simp only [bd, if_true]
    by_cases c : tag = 0
    · left
      refine ⟨b, c, ?_⟩
      rw [pre, xx3_put_b20, if_neg (by decide), if_pos c]
    · right
      have g0' : 0 < tag := by lia
      have len := List.length_filter_le (fun e => !alv σ e) (es t)
      have E6 := M.2.2.2.2.2.2.2.2.1
      have pos : 0 ≤ (sF σ 220).toInt := by rw [M.2.2.2.2.2.2.2.2.2]; omega
      have err : ∀ ρ : mS, sF ρ 220 = 20000 → xx3_put_b64 N t kt k tag v 1 ρ = some (.error (1101, ρ)) := fun ρ h => by
        have : xx3_entry N ρ t kt k = some (.error (1101, ρ)) := by rw [xx3_entry, if_pos]; exact h
        rw [xx3_put_b64, this]
        rfl
      by_cases d : 8 ≤ ((es t).filter (fun e => !alv σ e)).length ∧ ((es t).filter (alv σ)).length ≤ ((es t).filter (fun e => !alv σ e)).length
      · have kl : keepL σ (es t) = (es t).filter (alv σ) := if_pos d
        obtain ⟨τ, ps', ff', u1, u2, u3, u4⟩ := bury_x hN M ht
        have al : alv τ = alv σ := by funext x; simp only [alv]; rw [mf_I u4 rfl]
        have tot : ((es t).filter (alv σ)).length + ((es t).filter (fun e => !alv σ e)).length = (es t).length := by
          have : ∀ (l : List Int32), (l.filter (alv σ)).length + (l.filter (fun e => !alv σ e)).length = l.length := by
            intro l
            induction l with
            | nil => rfl
            | cons x l ih =>
              simp only [List.filter_cons, List.length_cons]
              cases alv σ x <;> simp <;> omega
          exact this _
        have pre2 : xx3_put N σ t kt k tag v = xx3_put_b64 N t kt k tag v 1 τ := by
          have c1 : ¬ sI σ 200 t < 8 := by
            rw [tI_lt, w5]
            have z : (8 : Int32).toInt = 8 := rfl
            omega
          have c2 : ¬ sI σ 200 t < sI σ 199 t := by rw [tI_lt, w5, w4]; omega
          rw [pre, xx3_put_b20, if_neg (by decide), if_neg c, gd_in (by decide) t0 t1, sI_fold, if_neg c1, gd_in (by decide) t0 t1, gd_in (by decide) t0 t1, sI_fold, if_neg c2, u1]
          rfl
        have cnt : (sF τ 220).toInt = (sF σ 220).toInt - ((es t).length - (keepL σ (es t)).length : Int) := by rw [u3, kl]; omega
        rw [← kl] at u2
        by_cases f : sF τ 220 = 20000
        · left
          refine ⟨b, c, by rw [← cnt, f]; rfl, τ, ps', ff', by rw [pre2]; exact err τ f, u2, f, u4⟩
        · right
          have z : (20000 : Int32).toInt = 20000 := rfl
          obtain ⟨A1, A2, A3⟩ := mf_FX u4 ⟨rfl, rfl, rfl, rfl, rfl, rfl⟩
          have g : ∀ x, sI τ 212 x = sI σ 212 x ∧ sJ τ 213 x = sJ σ 213 x ∧ sI τ 214 x = sI σ 214 x ∧ sJ τ 215 x = sJ σ 215 x := fun x => ⟨mf_I u4 rfl, mf_J u4 rfl, mf_I u4 rfl, mf_J u4 rfl⟩
          obtain ⟨e, υ, ps2, hs2, ff2, fh2, v1, v2, v3, v4, v5, v6, v7, v8, v9⟩ := put_nw hN (v := v) u2 (A3 hd) ht (by simp only [k_ok, A1]; exact hk) (fun x hx q => by
            rw [fU_s, kl] at hx
            simp only [k_eq, A2, (g x).1, (g x).2.1] at q
            exact b x (List.mem_filter.mp hx).1 q) g0' g1 f
          rw [fU_s, fU_fU] at v3
          refine ⟨b, c, fun q => f (by rw [tI_eq, z, cnt]; exact q), e, υ, ps2, hs2, ff2, fh2, by rw [pre2]; exact v2, fun s hs' => ?_, v3, fun x x0 => by rw [v4 x x0, (g x).1], fun x x0 => by rw [v5 x x0, (g x).2.1], fun x x0 => by rw [v6 x x0, (g x).2.2.1], fun x x0 => by rw [v7 x x0, (g x).2.2.2], ?_, ?_⟩
          · right
            have := (u2.2.2.2.2.2.2.2.1 e (by rw [v1]; simp)).2.2 t ht
            rw [fU_s] at this
            exact this
          · have r := tI_rng (sF τ 220)
            have E6' := u2.2.2.2.2.2.2.2.2.1
            rw [v8, tI_add, cnt] <;> simp only [show (1 : Int32).toInt = 1 from rfl] <;> omega
          · refine mf_tr (mf_mono u4 (fun k hk => ?_)) (mf_mono v9 (fun k hk => ?_))
            · simp only [hP, Bool.or_eq_false_iff] at hk; exact hk.1
            · simp only [hP, Bool.or_eq_false_iff] at hk ⊢; exact hk.2.2
      · have kl : keepL σ (es t) = es t := if_neg d
        have pre2 : xx3_put N σ t kt k tag v = xx3_put_b64 N t kt k tag v 1 σ := by
          rw [pre, xx3_put_b20, if_neg (by decide), if_neg c, gd_in (by decide) t0 t1, sI_fold]
          by_cases c1 : sI σ 200 t < 8
          · rw [if_pos c1]
          · have c2 : sI σ 200 t < sI σ 199 t := by
              rw [tI_lt, w5, w4]
              rw [tI_lt, w5] at c1
              have z : (8 : Int32).toInt = 8 := rfl
              omega
            rw [if_neg c1, gd_in (by decide) t0 t1, gd_in (by decide) t0 t1, sI_fold, if_pos c2]
        have z : (20000 : Int32).toInt = 20000 := rfl
        by_cases f : sF σ 220 = 20000
        · left
          refine ⟨b, c, by rw [kl, f, z]; omega, σ, ps, ff, by rw [pre2]; exact err σ f, by rw [kl, fU_id]; exact M, f, mf_rfl⟩
        · right
          obtain ⟨e, υ, ps2, hs2, ff2, fh2, v1, v2, v3, v4, v5, v6, v7, v8, v9⟩ := put_nw hN (v := v) M hd ht hk b g0' g1 f
          refine ⟨b, c, fun q => f (by rw [tI_eq, z, ← q, kl]; omega), e, υ, ps2, hs2, ff2, fh2, by rw [pre2]; exact v2, fun s hs' => .inl ((M.2.2.2.2.2.2.2.1 e (by rw [v1]; simp)).2.2 s hs'), by rw [kl]; exact v3, v4, v5, v6, v7, ?_, mf_mono v9 (fun k hk => ?_)⟩
          · have r := tI_rng (sF σ 220)
            rw [v8, kl, tI_add] <;> simp only [show (1 : Int32).toInt = 1 from rfl] <;> omega
          · simp only [hP, Bool.or_eq_false_iff] at hk ⊢; exact hk.2.2
