/-! LAYER 2: the reference's collector: all that is come to is marked -/
theorem pop_M {μ0 τ : mS} {R : OB2 → Prop} {E : OB2 → OB2 → Prop} {G : List OB2} {L : List OB2} {z : OB2} (J : JM μ0 R E (fun _ => False) τ G (L ++ [z])) : (sF τ 238 - 1 = Int32.ofNat L.length ∧ 0 < sF τ 238 ∧ 0 ≤ Int32.ofNat L.length ∧ Int32.ofNat L.length < 32000) ∧ sI τ 237 (Int32.ofNat L.length) = cod z ∧ R z ∧ okm z ∧ z.1 ≠ 1 ∧ JM μ0 R E (fun o => o = z) (md_pi τ 238 (Int32.ofNat L.length)) (G ++ [z]) L := by
  have len := JM_len J
  obtain ⟨j1, j2, j3, j4, j5, j6, j7, j8⟩ := J
  obtain ⟨p1, p2⟩ := j2
  rw [List.length_append, List.length_singleton] at p1 p2 len
  have hz := j4 z (by simp)
  have ms : ∀ o, mkm (md_pi τ 238 (Int32.ofNat L.length)) o ↔ mkm τ o := fun o => by simp only [mkm, sI_pi]
  have mem : ∀ y, y ∈ (G ++ [z]) ++ L ↔ y ∈ G ++ (L ++ [z]) := fun y => by
    simp only [List.mem_append, List.mem_singleton]
    constructor
    · rintro ((h | h) | h)
      · exact .inl h
      · exact .inr (.inr h)
      · exact .inr (.inl h)
    · rintro (h | h | h)
      · exact .inl (.inl h)
      · exact .inr h
      · exact .inl (.inr h)
  have s1 : Int32.ofNat (L.length + 1) = Int32.ofNat L.length + 1 := oN_s.symm
  have ge0 : 0 ≤ Int32.ofNat L.length := oN_nn (by omega)
  have lt0 : Int32.ofNat L.length < Int32.ofNat (L.length + 1) := by rw [oN_lt (by omega) (by omega)]; omega
  have c1 : Int32.ofNat L.length < 32000 := by
    rw [show (32000 : Int32) = Int32.ofNat 32000 from rfl, oN_lt (by omega) (by omega)]
    omega
  refine ⟨⟨by rw [p1, s1]; exact em_1, by rw [p1]; exact Int32.lt_of_le_of_lt ge0 lt0, ge0, c1⟩, by rw [p2 L.length (by omega), app_lo], j7 z hz.1 hz.2.2, hz.1, hz.2.1, mf_pi j1 rfl, ⟨by rw [sF_pi, if_pos rfl], fun j hj => by rw [sI_pi, p2 j (by omega), app_ao hj]⟩, ?_, fun o h => ?_, fun o h h1 hm => ?_, fun o h => ?_, fun o h hm => j7 o h ((ms o).mp hm), fun o h hm hex hl y hE hy => ?_⟩
  · have pm : ((G ++ [z]) ++ L).Perm (G ++ (L ++ [z])) := by
      rw [List.append_assoc]
      exact List.Perm.append_left _ List.perm_append_comm
    exact pm.nodup_iff.mpr j3
  · have := j4 o ((mem o).mp h)
    exact ⟨this.1, this.2.1, (ms o).mpr this.2.2⟩
  · exact (mem o).mpr (j5 o h h1 ((ms o).mp hm))
  · rw [sI_pi]
    rcases j6 o h with q | q
    · exact .inl q
    · exact .inr ((ms o).mpr q)
  · refine (ms y).mpr (j8 o h ((ms o).mp hm) (fun z => z) (fun q => ?_) y hE hy)
    rcases List.mem_append.mp q with q | q
    · exact hl q
    · rw [List.mem_singleton] at q; exact hex q
theorem JM_ex {μ0 τ : mS} {R : OB2 → Prop} {E : OB2 → OB2 → Prop} {ex ex' : OB2 → Prop} {G L : List OB2} (J : JM μ0 R E ex' τ G L) (h : ∀ o, okm o → mkm τ o → ex' o → ¬ ex o → ∀ y, E o y → okm y → mkm τ y) : JM μ0 R E ex τ G L := by
  obtain ⟨j1, j2, j3, j4, j5, j6, j7, j8⟩ := J
  refine ⟨j1, j2, j3, j4, j5, j6, j7, fun o ho hm hex hpl y hE hy => ?_⟩
  by_cases c : ex' o
  · exact h o ho hm c hex y hE hy
  · exact j8 o ho hm c hpl y hE hy
/-- what comes behind the marks -/
def swpM (N : Nat) (σ : mS) : Option mS := bd (mm_sweepEntries N σ) (fun z1 => bd (mm_sweepStrings N z1) (fun z2 => bd (mm_sweepOthers N z2) (fun z3 => some z3)))
theorem col_lp {N : Nat} (hN : BIG ≤ N) {μ0 : mS} {es : Int32 → List Int32} {R : OB2 → Prop} (C : CEM μ0 es R) (H : SHM μ0 es R) : ∀ (n : Nat) τ G L, JM μ0 R (edm μ0 es) (fun _ => False) τ G L → 19120 - G.length < n → ∃ τ' G', mm_collect_29 N n τ = swpM N τ' ∧ JM μ0 R (edm μ0 es) (fun _ => False) τ' G' [] ∧ (∀ y, okm y → mkm τ y → mkm τ' y) := by
  intro n
  induction n with
  | zero => intro τ G L _ h; omega
  | succ n ih =>
    intro τ G L J hn
    rw [mm_collect_29]
    rcases List.eq_nil_or_concat L with rfl | ⟨l, z, rfl⟩
    · have c0 : τ.1 238 ≤ 0 := by
        have : sF τ 238 = Int32.ofNat ([] : List OB2).length := J.2.1.1
        rw [show τ.1 238 = sF τ 238 from rfl, this]
        decide
      rw [if_pos c0]
      exact ⟨τ, G, rfl, J, fun _ _ h => h⟩
    · rw [List.concat_eq_append] at J
      have len := JM_len J
      rw [List.length_append, List.length_singleton] at len
      obtain ⟨⟨p1, p2, p3, p4⟩, p5, p6, ok, h1, J1⟩ := pop_M J
      have c0 : ¬ τ.1 238 ≤ 0 := Int32.not_le.mpr p2
      have p1' : τ.1 238 - 1 = Int32.ofNat l.length := p1
      have e237 : (md_pi τ 238 (Int32.ofNat l.length)).2.2.1 237 (Int32.ofNat l.length).toNatClampNeg = cod z := p5
      have cd := cod_d ok h1
      obtain ⟨τ1, L1, q1, q2, q3, q4⟩ := mgo_a hN C H J1 h1 p6
      have J2 : JM μ0 R (edm μ0 es) (fun _ => False) τ1 (G ++ [z]) L1 := JM_ex q2 (fun o ho hm hx _ y hE hy => by
        rw [hx] at hE
        exact q4 y hE)
      obtain ⟨τ', G', r1, r2, r3⟩ := ih τ1 _ L1 J2 (by rw [List.length_append, List.length_singleton]; omega)
      refine ⟨τ', G', ?_, r2, fun y hy hm => r3 y hy (q3 y hy ?_)⟩
      · rw [if_neg c0, p1', lt]
        rw [show (md_pi τ 238 (Int32.ofNat l.length)).1 238 = Int32.ofNat l.length from rfl, gd_in (by decide) p3 p4, e237, lt, cd.1, cd.2, q1, bd_so]
        exact r1
      · simp only [mkm, sI_pi] at hm ⊢; exact hm
/-- rows of marks are cleared -/
theorem cm_1 {i n : Int32} (i0 : 0 ≤ i) (h : i < n) (h2 : n ≤ 32768) : 0 ≤ i + 1 ∧ i + 1 ≤ n ∧ (i + 1).toInt = i.toInt + 1 ∧ ∀ k, k < i + 1 → ¬ k = i → k < i := by
  refine ⟨by lia, by lia, ?_, fun k k0 ne => by lia⟩
  have a := tI_le.mp i0
  have b := tI_lt.mp h
  have c := tI_le.mp h2
  rw [show (32768 : Int32).toInt = 32768 from rfl] at c
  rw [show (0 : Int32).toInt = 0 from rfl] at a
  rw [tI_add, show (1 : Int32).toInt = 1 from rfl] <;> rw [show (1 : Int32).toInt = 1 from rfl] <;> omega
theorem nar_b0 : vp_nar .boolean (0 : Int32) = 0 := by decide
def zr (σ : mS) (k : Nat) (n : Int32) : Prop := ∀ i, 0 ≤ i → i < n → sI σ k i = 0
theorem zr_s {σ : mS} {k : Nat} {i n : Int32} (i0 : 0 ≤ i) (h : i < n) (h2 : n ≤ 32768) (z : zr σ k i) : zr (md_ai σ k i.toNatClampNeg 0) k (i + 1) := fun m m0 m1 => by
  rw [sI_aj i0 m0]
  by_cases c : m = i
  · rw [if_pos c]
  · rw [if_neg c]; exact z m m0 ((cm_1 i0 h h2).2.2.2 m m1 c)
theorem zr_o {σ : mS} {k j i : Nat} {v n : Int32} (z : zr σ k n) (h : k ≠ j) : zr (md_ai σ j i v) k n := fun m m0 m1 => by rw [sI_ai1 h]; exact z m m0 m1
def cmF (k : Nat) : Bool := [232, 233, 234, 235, 236].contains k
theorem cl75 {N : Nat} {μ0 : mS} (j : Nat) : ∀ (i : Int32), 0 ≤ i → i ≤ 120 → (120 - i.toInt).toNat < j → ∀ τ, m_fr cmF μ0 τ → zr τ 236 i → zr τ 232 12000 → zr τ 233 3000 → zr τ 234 4000 → zr τ 235 12000 → ∃ υ, mm_clearMarks_75 N j i τ = some υ ∧ m_fr cmF μ0 υ ∧ zr υ 236 120 ∧ zr υ 232 12000 ∧ zr υ 233 3000 ∧ zr υ 234 4000 ∧ zr υ 235 12000 := by
  induction j with
  | zero => intro i _ _ h; omega
  | succ j ih =>
    intro i i0 i1 hj τ fr z6 z2 z3 z4 z5
    rw [mm_clearMarks_75]
    by_cases c : 120 ≤ i
    · have e := Int32.le_antisymm i1 c
      subst e
      rw [if_pos c]
      exact ⟨τ, rfl, fr, z6, z2, z3, z4, z5⟩
    · have ilt := Int32.not_le.mp c
      have T := cm_1 i0 ilt (by decide)
      have il := tI_lt.mp ilt
      rw [if_neg c, gd_in (by decide) i0 (Int32.lt_trans ilt (by decide)), nar_b0, lt, lt]
      exact ih (i + 1) T.1 T.2.1 (by rw [T.2.2.1]; rw [show (120 : Int32).toInt = 120 from rfl] at il; omega) _ (mf_ai fr rfl) (zr_s i0 ilt (by decide) z6) (zr_o z2 (by decide)) (zr_o z3 (by decide)) (zr_o z4 (by decide)) (zr_o z5 (by decide))
theorem cl53 {N : Nat} (hN : BIG ≤ N) {μ0 : mS} (j : Nat) : ∀ (i : Int32), 0 ≤ i → i ≤ 3000 → (3000 - i.toInt).toNat < j → ∀ τ, m_fr cmF μ0 τ → zr τ 233 i → zr τ 232 12000 → zr τ 234 4000 → zr τ 235 12000 → ∃ υ, mm_clearMarks_53 N j i τ = some υ ∧ m_fr cmF μ0 υ ∧ zr υ 236 120 ∧ zr υ 232 12000 ∧ zr υ 233 3000 ∧ zr υ 234 4000 ∧ zr υ 235 12000 := by
  induction j with
  | zero => intro i _ _ h; omega
  | succ j ih =>
    intro i i0 i1 hj τ fr z3 z2 z4 z5
    rw [mm_clearMarks_53]
    by_cases c : 3000 ≤ i
    · have e := Int32.le_antisymm i1 c
      subst e
      rw [if_pos c]
      exact cl75 N 0 (by decide) (by decide) (by simp only [BIG] at hN; rw [show (0 : Int32).toInt = 0 from rfl]; omega) τ fr (fun m m0 m1 => absurd (Int32.lt_of_le_of_lt m0 m1) Int32.lt_irrefl) z2 z3 z4 z5
    · have ilt := Int32.not_le.mp c
      have T := cm_1 i0 ilt (by decide)
      have il := tI_lt.mp ilt
      rw [if_neg c, gd_in (by decide) i0 ilt, nar_b0, lt, lt]
      exact ih (i + 1) T.1 T.2.1 (by rw [T.2.2.1]; rw [show (3000 : Int32).toInt = 3000 from rfl] at il; omega) _ (mf_ai fr rfl) (zr_s i0 ilt (by decide) z3) (zr_o z2 (by decide)) (zr_o z4 (by decide)) (zr_o z5 (by decide))
theorem cl31 {N : Nat} (hN : BIG ≤ N) {μ0 : mS} (j : Nat) : ∀ (i : Int32), 0 ≤ i → i ≤ 4000 → (4000 - i.toInt).toNat < j → ∀ τ, m_fr cmF μ0 τ → zr τ 234 i → zr τ 232 12000 → zr τ 235 12000 → ∃ υ, mm_clearMarks_31 N j i τ = some υ ∧ m_fr cmF μ0 υ ∧ zr υ 236 120 ∧ zr υ 232 12000 ∧ zr υ 233 3000 ∧ zr υ 234 4000 ∧ zr υ 235 12000 := by
  induction j with
  | zero => intro i _ _ h; omega
  | succ j ih =>
    intro i i0 i1 hj τ fr z4 z2 z5
    rw [mm_clearMarks_31]
    by_cases c : 4000 ≤ i
    · have e := Int32.le_antisymm i1 c
      subst e
      rw [if_pos c]
      exact cl53 hN N 0 (by decide) (by decide) (by simp only [BIG] at hN; rw [show (0 : Int32).toInt = 0 from rfl]; omega) τ fr (fun m m0 m1 => absurd (Int32.lt_of_le_of_lt m0 m1) Int32.lt_irrefl) z2 z4 z5
    · have ilt := Int32.not_le.mp c
      have T := cm_1 i0 ilt (by decide)
      have il := tI_lt.mp ilt
      rw [if_neg c, gd_in (by decide) i0 ilt, nar_b0, lt, lt]
      exact ih (i + 1) T.1 T.2.1 (by rw [T.2.2.1]; rw [show (4000 : Int32).toInt = 4000 from rfl] at il; omega) _ (mf_ai fr rfl) (zr_s i0 ilt (by decide) z4) (zr_o z2 (by decide)) (zr_o z5 (by decide))
theorem cl2 {N : Nat} (hN : BIG ≤ N) {μ0 : mS} (j : Nat) : ∀ (i : Int32), 0 ≤ i → i ≤ 12000 → (12000 - i.toInt).toNat < j → ∀ τ, m_fr cmF μ0 τ → zr τ 232 i → zr τ 235 i → ∃ υ, mm_clearMarks_2 N j i τ = some υ ∧ m_fr cmF μ0 υ ∧ zr υ 236 120 ∧ zr υ 232 12000 ∧ zr υ 233 3000 ∧ zr υ 234 4000 ∧ zr υ 235 12000 := by
  induction j with
  | zero => intro i _ _ h; omega
  | succ j ih =>
    intro i i0 i1 hj τ fr z2 z5
    rw [mm_clearMarks_2]
    by_cases c : 12000 ≤ i
    · have e := Int32.le_antisymm i1 c
      subst e
      rw [if_pos c]
      exact cl31 hN N 0 (by decide) (by decide) (by simp only [BIG] at hN; rw [show (0 : Int32).toInt = 0 from rfl]; omega) τ fr (fun m m0 m1 => absurd (Int32.lt_of_le_of_lt m0 m1) Int32.lt_irrefl) z2 z5
    · have ilt := Int32.not_le.mp c
      have T := cm_1 i0 ilt (by decide)
      have il := tI_lt.mp ilt
      rw [if_neg c, gd_in (by decide) i0 ilt, nar_b0, lt, gd_in (by decide) i0 ilt, lt, lt]
      exact ih (i + 1) T.1 T.2.1 (by rw [T.2.2.1]; rw [show (12000 : Int32).toInt = 12000 from rfl] at il; omega) _ (mf_ai (mf_ai fr rfl) rfl) (zr_o (zr_s i0 ilt (by decide) z2) (by decide)) (zr_s i0 ilt (by decide) (zr_o z5 (by decide)))
/-- what can be come to -/
def RCM (μ : mS) (es : Int32 → List Int32) (o : OB2) : Prop := ∀ P : OB2 → Prop, P (2, sF μ 191) → P (2, sF μ 192) → (∀ o y, P o → edm μ es o y → P y) → P o
theorem edm_fr {P : Nat → Bool} {μ τ : mS} {es : Int32 → List Int32} (fr : m_fr P μ τ) (hp : ∀ k, (k < 232 ∨ 238 < k) → P k = false) : edm τ es = edm μ es := by
  funext o y
  have i : ∀ k, (k < 232 ∨ 238 < k) → ∀ m, sI τ k m = sI μ k m := fun k h m => mf_I fr (hp k h)
  have j : ∀ k, (k < 232 ∨ 238 < k) → ∀ m, sJ τ k m = sJ μ k m := fun k h m => mf_J fr (hp k h)
  simp only [edm, kpt, kpv]
  rw [i 20 (by omega), i 45 (by omega), i 53 (by omega), j 54 (by omega), i 156 (by omega), i 159 (by omega), i 158 (by omega), i 164 (by omega), i 166 (by omega), i 165 (by omega), i 163 (by omega)]
  simp only [i 34 (by omega), i 32 (by omega), j 33 (by omega), j 35 (by omega), i 81 (by omega), i 50 (by omega), i 46 (by omega), i 173 (by omega), j 174 (by omega), i 176 (by omega)]
theorem marks_m {N : Nat} (hN : BIG ≤ N) {μ0 : mS} {es : Int32 → List Int32} (C : CEM μ0 es (RCM μ0 es)) (H : SHM μ0 es (RCM μ0 es)) : ∃ τ, mm_collect N μ0 = swpM N τ ∧ m_fr mmF μ0 τ ∧ (∀ o, okm o → sI τ (mkfm o.1) (mki o) = 0 ∨ mkm τ o) ∧ (∀ o, okm o → (mkm τ o ↔ RCM μ0 es o)) := by
  obtain ⟨υ, u1, fr, z6, z2, z3, z4, z5⟩ := cl2 hN (μ0 := μ0) N 0 (by decide) (by decide) (by simp only [BIG] at hN; rw [show (0 : Int32).toInt = 0 from rfl]; omega) μ0 mf_rfl (fun m m0 m1 => absurd (Int32.lt_of_le_of_lt m0 m1) Int32.lt_irrefl) (fun m m0 m1 => absurd (Int32.lt_of_le_of_lt m0 m1) Int32.lt_irrefl)
  have r1 : RCM μ0 es (2, sF μ0 191) := fun P h _ _ => h
  have r2 : RCM μ0 es (2, sF μ0 192) := fun P _ h _ => h
  have f1 : m_fr mmF μ0 (md_pi υ 238 0) := mf_pi (mf_mono fr (fun k hk => by
    simp only [mmF, cmF, List.contains_cons, List.contains_nil, Bool.or_eq_false_iff, beq_eq_false_iff_ne] at hk ⊢
    (repeat' (first | exact trivial | omega | apply And.intro)))) rfl
  have zz : ∀ o, okm o → sI (md_pi υ 238 0) (mkfm o.1) (mki o) = 0 := fun o ok => by
    rw [sI_pi]
    rcases ok with ⟨h, a, b⟩ | ⟨h, a, b⟩ | ⟨h, a, b⟩ | ⟨h, a, b⟩ | ⟨h, a, b⟩ <;> simp only [mki, h]
    · rw [if_pos trivial]; exact z2 _ (by lia) (by lia)
    · rw [if_neg (by decide), if_neg (by decide)]; exact z3 _ a b
    · rw [if_neg (by decide), if_pos trivial]; exact z4 _ (by lia) (by lia)
    · rw [if_neg (by decide), if_neg (by decide)]; exact z5 _ a b
    · rw [if_neg (by decide), if_neg (by decide)]; exact z6 _ a b
  have nm : ∀ o, okm o → ¬ mkm (md_pi υ 238 0) o := fun o h hm => absurd ((zz o h).symm.trans hm) (by decide)
  have J0 : JM μ0 (RCM μ0 es) (edm μ0 es) (fun _ => False) (md_pi υ 238 0) [] [] := ⟨f1, ⟨by rw [sF_pi, if_pos rfl]; rfl, fun j hj => absurd hj (by simp)⟩, by simp, fun o h => absurd h (by simp), fun o h _ hm => absurd hm (nm o h), fun o h => .inl (zz o h), fun o h hm => absurd hm (nm o h), fun o h hm => absurd hm (nm o h)⟩
  obtain ⟨τ1, L1, a1, a2, a3, a4⟩ := reach_a (N := N) C J0 (t := 4) (v := Int32.toInt64 (sF μ0 191)) (fun o ho => by rw [(rfm_4 o).mp ho]; exact r1)
  obtain ⟨τ2, L2, b1, b2, b3, b4⟩ := reach_a (N := N) C a2 (t := 4) (v := Int32.toInt64 (sF μ0 192)) (fun o ho => by rw [(rfm_4 o).mp ho]; exact r2)
  obtain ⟨τ, G, c1, c2, c3⟩ := col_lp hN C H N τ2 _ L2 b2 (by simp only [BIG] at hN; simp; omega)
  have e191 : (md_pi υ 238 0).1 191 = sF μ0 191 := mf_F f1 (k := 191) rfl
  have e192 : τ1.1 192 = sF μ0 192 := mf_F a2.1 (k := 192) rfl
  obtain ⟨j1, j2, j3, j4, j5, j6, j7, j8⟩ := c2
  refine ⟨τ, ?_, j1, j6, fun o ho => ⟨fun hm => j7 o ho hm, fun hr => ?_⟩⟩
  · rw [mm_collect, mm_clearMarks, u1, bd_so, lt, e191, a1, bd_so, e192, b1, bd_so]
    exact c1
  · have cl := hr (fun o => okm o ∧ mkm τ o) ⟨C.2 _ r1, c3 _ (C.2 _ r1) (b3 _ (C.2 _ r1) (a4 _ ((rfm_4 _).mpr rfl)))⟩ ⟨C.2 _ r2, c3 _ (C.2 _ r2) (b4 _ ((rfm_4 _).mpr rfl))⟩ (fun x y hx hE => by
      have hy : okm y := C.2 y (C.1 x y (j7 x hx.1 hx.2) hE)
      exact ⟨hy, j8 x hx.1 hx.2 (fun z => z) (by simp) y hE hy⟩)
    exact cl.2
