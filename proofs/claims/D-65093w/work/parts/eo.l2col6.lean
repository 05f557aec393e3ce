/-! LAYER 2: the system's collector: all that is come to is marked -/
def tot (Gd : Nat → List Int32) : Nat := (Gd 2).length + (Gd 3).length + (Gd 5).length
/-- how a round of the tracing ends -/
def RND (N : Nat) (σ0 : mS) (es xf : Int32 → List Int32) (R : OB2 → Prop) (r2 : Int32 → mS → Option mS) (v1 : Int32) (τ : mS) (Gd L : Nat → List Int32) (om : Option mS) (Q : Prop) : Prop := ∃ v τ' Gd' L', om = r2 v τ' ∧ JX σ0 R (edx σ0 es xf) (fun _ => False) τ' Gd' L' ∧ (∀ y, okx y → mkx τ y → mkx τ' y) ∧ tot Gd ≤ tot Gd' ∧ ((v = 0 ∧ v1 = 0 ∧ τ' = τ ∧ Gd' = Gd ∧ L' = L ∧ Q) ∨ (v = 1 ∧ (v1 = 1 ∨ tot Gd < tot Gd')))
theorem f40_lp {N : Nat} (hN : BIG ≤ N) {σ0 : mS} {es xf : Int32 → List Int32} {R : OB2 → Prop} (C : CEN σ0 es xf R) (H : SHX σ0 es xf R) (r2 : Int32 → mS → Option mS) : ∀ (n : Nat) (v1 : Int32), v1 = 0 ∨ v1 = 1 → ∀ τ Gd L, JX σ0 R (edx σ0 es xf) (fun _ => False) τ Gd L → 4000 - (Gd 3).length < n → RND N σ0 es xf R r2 v1 τ Gd L (xx3_trace_b40 N r2 n v1 τ) (L 3 = [] ∧ L 5 = []) := by
  intro n
  induction n with
  | zero => intro v1 _ τ Gd L _ h; omega
  | succ n ih =>
    intro v1 hv τ Gd L J hn
    obtain ⟨e1, e2⟩ := nil_J J (k := 3) (.inr (.inl rfl))
    rw [xx3_trace_b40]
    by_cases c : L 3 = []
    · have c0 : τ.1 244 ≤ 0 := e1 c
      obtain ⟨v, τ', Gd', L', t1, t2, t3, t4, t5, t6⟩ := xtrace5 hN C H J
      rw [if_pos c0, t1, bd_so]
      dsimp only
      rcases t6 with ⟨rfl, g0, rfl, rfl, rfl⟩ | ⟨rfl, g0⟩
      · rw [if_pos rfl]
        rcases hv with rfl | rfl
        · rw [if_pos rfl, xx3_trace_b147]
          exact ⟨0, _, _, _, rfl, t2, fun _ _ h => h, Nat.le_refl _, .inl ⟨rfl, rfl, rfl, rfl, rfl, c, g0⟩⟩
        · rw [if_neg n10, xx3_trace_b142, xx3_trace_b147]
          exact ⟨1, _, _, _, rfl, t2, fun _ _ h => h, Nat.le_refl _, .inr ⟨rfl, .inl rfl⟩⟩
      · rw [if_neg n10, xx3_trace_b142, xx3_trace_b147]
        have tt : tot Gd < tot Gd' := by simp only [tot, t5.1, t5.2]; omega
        exact ⟨1, _, _, _, rfl, t2, t4, Nat.le_of_lt tt, .inr ⟨rfl, .inr tt⟩⟩
    · obtain ⟨c0, l, x, el⟩ := e2 c
      have c0' : ¬ τ.1 244 ≤ 0 := c0
      obtain ⟨⟨p1, p2, p3, p4⟩, p5, p6, J1⟩ := pop_J J (k := 3) (.inr (.inl rfl)) el
      have gl := gd_len J (k := 3) (.inr (.inl rfl))
      rw [el, List.length_append, List.length_singleton, cap_3] at gl
      rw [cap_3] at p4
      have p4' : Int32.ofNat l.length < 4000 := tI_lt.mpr p4
      have p1' : τ.1 244 - 1 = Int32.ofNat l.length := p1
      have J1' : JX σ0 R (edx σ0 es xf) (fun o => o = (3, x)) (md_pi τ 244 (Int32.ofNat l.length)) (lU Gd 3 (Gd 3 ++ [x])) (lU L 3 l) := J1
      have e242 : (md_pi τ 244 (Int32.ofNat l.length)).2.2.1 242 (Int32.ofNat l.length).toNatClampNeg = x := p5
      have f224 := (H.2.1 x p6)
      have b224 := tI_le.mp f224.2.1
      rw [show (12000 : Int32).toInt = 12000 from rfl] at b224
      obtain ⟨τ1, L1, q1, q2, q3, q4⟩ := f66_lp (N := N) C H p6 r2 (xx3_trace_b40 N r2 n) N 0 (by decide) (by rw [show (0 : Int32).toInt = 0 from rfl]; simp only [BIG] at hN; omega) _ _ J1'
      have J2 : JX σ0 R (edx σ0 es xf) (fun _ => False) τ1 (lU Gd 3 (Gd 3 ++ [x])) L1 := JX_ex q2 (fun o ho hm hx _ y hE hy => by
        rw [hx] at hE
        exact q4 y (edx_3 hE))
      have tg : tot (lU Gd 3 (Gd 3 ++ [x])) = tot Gd + 1 := by
        simp only [tot]
        rw [lU_s, lU_o (by decide), lU_o (by decide), List.length_append, List.length_singleton]
        omega
      obtain ⟨v, τ', Gd', L', r1, r2', r3, r4, r5⟩ := ih 1 (.inr rfl) τ1 _ L1 J2 (by rw [lU_s, List.length_append, List.length_singleton]; omega)
      rw [tg] at r4 r5
      refine ⟨v, τ', Gd', L', ?_, r2', fun y hy hm => r3 y hy (q3 y hy ?_), by omega, ?_⟩
      · rw [if_neg c0', p1', lt, lt, gd_in (by decide) p3 p4', e242, lt, q1]
        exact r1
      · simp only [mkx, sI_pi] at hm ⊢; exact hm
      · rcases r5 with ⟨_, h, _⟩ | ⟨h, _⟩
        · exact absurd h (by decide)
        · exact .inr ⟨h, .inr (by omega)⟩
theorem t8_lp {N : Nat} (hN : BIG ≤ N) {σ0 : mS} {es xf : Int32 → List Int32} {R : OB2 → Prop} (C : CEN σ0 es xf R) (H : SHX σ0 es xf R) (r2 : Int32 → mS → Option mS) : ∀ (n : Nat) (v1 : Int32), v1 = 0 ∨ v1 = 1 → ∀ τ Gd L, JX σ0 R (edx σ0 es xf) (fun _ => False) τ Gd L → 3000 - (Gd 2).length < n → RND N σ0 es xf R r2 v1 τ Gd L (xx3_trace_b8 N r2 n v1 τ) (L 2 = [] ∧ L 3 = [] ∧ L 5 = []) := by
  intro n
  induction n with
  | zero => intro v1 _ τ Gd L _ h; omega
  | succ n ih =>
    intro v1 hv τ Gd L J hn
    obtain ⟨e1, e2⟩ := nil_J J (k := 2) (.inl rfl)
    rw [xx3_trace_b8]
    by_cases c : L 2 = []
    · have c0 : τ.1 243 ≤ 0 := e1 c
      obtain ⟨v, τ', Gd', L', r1, r2', r3, r4, r5⟩ := f40_lp hN C H r2 N v1 hv τ Gd L J (by simp only [BIG] at hN; omega)
      rw [if_pos c0]
      refine ⟨v, τ', Gd', L', r1, r2', r3, r4, ?_⟩
      rcases r5 with ⟨h1, h2, h3, h4, h5, h6⟩ | h
      · exact .inl ⟨h1, h2, h3, h4, h5, c, h6⟩
      · exact .inr h
    · obtain ⟨c0, l, x, el⟩ := e2 c
      have c0' : ¬ τ.1 243 ≤ 0 := c0
      obtain ⟨⟨p1, p2, p3, p4⟩, p5, p6, J1⟩ := pop_J J (k := 2) (.inl rfl) el
      have gl := gd_len J (k := 2) (.inl rfl)
      rw [el, List.length_append, List.length_singleton, cap_2] at gl
      rw [cap_2] at p4
      have p4' : Int32.ofNat l.length < 3000 := tI_lt.mpr p4
      have p1' : τ.1 243 - 1 = Int32.ofNat l.length := p1
      have J1' : JX σ0 R (edx σ0 es xf) (fun o => o = (2, x)) (md_pi τ 243 (Int32.ofNat l.length)) (lU Gd 2 (Gd 2 ++ [x])) (lU L 2 l) := J1
      have e241 : (md_pi τ 243 (Int32.ofNat l.length)).2.2.1 241 (Int32.ofNat l.length).toNatClampNeg = x := p5
      obtain ⟨τ1, L1, q1, J2, q3⟩ := done_J (xtraceT hN C H J1' p6)
      have tg : tot (lU Gd 2 (Gd 2 ++ [x])) = tot Gd + 1 := by
        simp only [tot]
        rw [lU_s, lU_o (by decide), lU_o (by decide), List.length_append, List.length_singleton]
        omega
      obtain ⟨v, τ', Gd', L', r1, r2', r3, r4, r5⟩ := ih 1 (.inr rfl) τ1 _ L1 J2 (by rw [lU_s, List.length_append, List.length_singleton]; omega)
      rw [tg] at r4 r5
      refine ⟨v, τ', Gd', L', ?_, r2', fun y hy hm => r3 y hy (q3 y hy ?_), by omega, ?_⟩
      · rw [if_neg c0', p1', lt, lt, gd_in (by decide) p3 p4', e241, q1, bd_so]
        exact r1
      · simp only [mkx, sI_pi] at hm ⊢; exact hm
      · rcases r5 with ⟨_, h, _⟩ | ⟨h, _⟩
        · exact absurd h (by decide)
        · exact .inr ⟨h, .inr (by omega)⟩
theorem tot_b {σ0 τ : mS} {R : OB2 → Prop} {E : OB2 → OB2 → Prop} {ex : OB2 → Prop} {Gd L : Nat → List Int32} (J : JX σ0 R E ex τ Gd L) : tot Gd ≤ 7121 := by
  have a := gd_len J (k := 2) (.inl rfl)
  have b := gd_len J (k := 3) (.inr (.inl rfl))
  have c := gd_len J (k := 5) (.inr (.inr rfl))
  rw [cap_2] at a
  rw [cap_3] at b
  rw [cap_5] at c
  simp only [tot]
  omega
theorem x2_lp {N : Nat} (hN : BIG ≤ N) {σ0 : mS} {es xf : Int32 → List Int32} {R : OB2 → Prop} (C : CEN σ0 es xf R) (H : SHX σ0 es xf R) : ∀ (n : Nat) τ Gd L, JX σ0 R (edx σ0 es xf) (fun _ => False) τ Gd L → 7200 - tot Gd < n → ∃ τ' Gd' L', xx3_trace_b2 N n 1 τ = some τ' ∧ JX σ0 R (edx σ0 es xf) (fun _ => False) τ' Gd' L' ∧ (∀ y, okx y → mkx τ y → mkx τ' y) ∧ (L' 2 = [] ∧ L' 3 = [] ∧ L' 5 = []) := by
  intro n
  induction n with
  | zero => intro τ Gd L _ h; omega
  | succ n ih =>
    intro τ Gd L J hn
    have tb := tot_b J
    obtain ⟨v, τ', Gd', L', r1, r2', r3, r4, r5⟩ := t8_lp hN C H (xx3_trace_b2 N n) N 0 (.inl rfl) τ Gd L J (by simp only [BIG] at hN; omega)
    rw [xx3_trace_b2, if_neg n10, r1]
    rcases r5 with ⟨rfl, _, rfl, rfl, rfl, h⟩ | ⟨rfl, h⟩
    · obtain ⟨n, rfl⟩ : ∃ j, n = j + 1 := ⟨n - 1, by omega⟩
      rw [xx3_trace_b2, if_pos rfl]
      exact ⟨_, _, _, rfl, r2', r3, h⟩
    · have h' : tot Gd < tot Gd' := by
        rcases h with h | h
        · exact absurd h (by decide)
        · exact h
      obtain ⟨τ2, Gd2, L2, s1, s2, s3, s4⟩ := ih τ' Gd' L' r2' (by omega)
      exact ⟨τ2, Gd2, L2, s1, s2, fun y hy hm => s3 y hy (r3 y hy hm), s4⟩
/-- no marks -/
def MZ (σ : mS) : Prop := (∀ o, okx o → sI σ (mkf o.1) o.2 = 0) ∧ sF σ 243 = 0 ∧ sF σ 244 = 0 ∧ sF σ 342 = 0
theorem J_0 {σ0 : mS} {R : OB2 → Prop} {E : OB2 → OB2 → Prop} (Z : MZ σ0) : JX σ0 R E (fun _ => False) σ0 (fun _ => []) (fun _ => []) := by
  have nm : ∀ o, okx o → ¬ mkx σ0 o := fun o h hm => absurd ((Z.1 o h).symm.trans hm) (by decide)
  refine ⟨mf_rfl, fun k h => ⟨?_, fun j hj => absurd hj (by simp)⟩, fun k h => ⟨by simp, fun x hx => absurd hx (by simp)⟩, fun k x _ h hm => absurd hm (nm _ h), fun o h => .inl (Z.1 o h), fun o h hm => absurd hm (nm o h), fun o h hm => absurd hm (nm o h)⟩
  rcases h with rfl | rfl | rfl
  · exact Z.2.1
  · exact Z.2.2.1
  · exact Z.2.2.2
/-- what can be come to -/
def RCX (σ : mS) (es xf : Int32 → List Int32) (o : OB2) : Prop := ∀ P : OB2 → Prop, P (2, sF σ 395) → P (2, sF σ 394) → (∀ o y, P o → edx σ es xf o y → P y) → P o
theorem rfx_5 {t : Int32} (y : OB2) : rfx 5 (Int32.toInt64 t) y ↔ y = (2, t) := by
  refine ⟨fun h => ?_, fun h => .inr (.inl ⟨rfl, by rw [h, i32_64]⟩)⟩
  rcases h with ⟨h, _⟩ | ⟨_, h⟩ | ⟨h, _⟩ | ⟨h, _⟩ | ⟨h, _⟩
  · exact absurd h (by decide)
  · rw [h, i32_64]
  · exact absurd h (by decide)
  · exact absurd h (by decide)
  · exact absurd h (by decide)
/-- all that can be come to is marked, and nothing else -/
theorem marks_x {N : Nat} (hN : BIG ≤ N) {σ0 : mS} {es xf : Int32 → List Int32} (Z : MZ σ0) (C : CEN σ0 es xf (RCX σ0 es xf)) (H : SHX σ0 es xf (RCX σ0 es xf)) : ∃ τ, (∀ {α : Type} (k : mS → Option α), bd (xx3_mark N σ0 5 (Int32.toInt64 (σ0.1 395))) (fun z1 => bd (xx3_mark N z1 5 (Int32.toInt64 (z1.1 394))) (fun z2 => bd (xx3_trace N z2) k)) = k τ) ∧ m_fr mkF σ0 τ ∧ (sF τ 243 = 0 ∧ sF τ 244 = 0 ∧ sF τ 342 = 0) ∧ (∀ o, okx o → sI τ (mkf o.1) o.2 = 0 ∨ mkx τ o) ∧ (∀ o, okx o → (mkx τ o ↔ RCX σ0 es xf o)) := by
  have r1 : RCX σ0 es xf (2, sF σ0 395) := fun P h _ _ => h
  have r2 : RCX σ0 es xf (2, sF σ0 394) := fun P _ h _ => h
  obtain ⟨τ1, L1, a1, a2, a3, a4⟩ := xmark (N := N) C (J_0 (R := RCX σ0 es xf) (E := edx σ0 es xf) Z) (t := 5) (v := Int32.toInt64 (sF σ0 395)) (fun o ho => by rw [(rfx_5 o).mp ho]; exact r1)
  have e394 : τ1.1 394 = sF σ0 394 := mf_F a2.1 (k := 394) rfl
  obtain ⟨τ2, L2, b1, b2, b3, b4⟩ := xmark (N := N) C a2 (t := 5) (v := Int32.toInt64 (sF σ0 394)) (fun o ho => by rw [(rfx_5 o).mp ho]; exact r2)
  obtain ⟨τ, Gd, L, c1, c2, c3, c4⟩ := x2_lp hN C H N τ2 _ L2 b2 (by simp only [BIG] at hN; omega)
  have a1' : xx3_mark N σ0 5 (Int32.toInt64 (σ0.1 395)) = some τ1 := a1
  have b1' : xx3_mark N τ1 5 (Int32.toInt64 (sF σ0 394)) = some τ2 := b1
  obtain ⟨j1, j2, j3, j4, j5, j6, j7⟩ := c2
  refine ⟨τ, fun k => ?_, j1, ⟨?_, ?_, ?_⟩, j5, fun o ho => ⟨fun hm => j6 o ho hm, fun hr => ?_⟩⟩
  · rw [a1', bd_so, e394, b1', bd_so, xx3_trace, c1, bd_so]
  · have := (j2 2 (.inl rfl)).1
    rw [c4.1] at this
    exact this
  · have := (j2 3 (.inr (.inl rfl))).1
    rw [c4.2.1] at this
    exact this
  · have := (j2 5 (.inr (.inr rfl))).1
    rw [c4.2.2] at this
    exact this
  · have cl := hr (fun o => okx o ∧ mkx τ o) ⟨C.2.1 _ r1, c3 _ (C.2.1 _ r1) (b3 _ (C.2.1 _ r1) (a4 _ ((rfx_5 _).mpr rfl)))⟩ ⟨C.2.1 _ r2, c3 _ (C.2.1 _ r2) (b4 _ ((rfx_5 _).mpr rfl))⟩ (fun x y hx hE => by
      have hy : okx y := C.2.1 y (C.1 x y (j6 x hx.1 hx.2) hE)
      refine ⟨hy, j7 x hx.1 hx.2 (fun z => z) (fun z => ?_) y hE hy⟩
      obtain ⟨z1, z2⟩ := z
      rcases z1 with q | q | q
      · rw [q, c4.1] at z2; exact absurd z2 (by simp)
      · rw [q, c4.2.1] at z2; exact absurd z2 (by simp)
      · rw [q, c4.2.2] at z2; exact absurd z2 (by simp))
    exact cl.2
