/-! UTIL: two and three results bound at once; names for memories; joined call rows; constants -/
set_option maxRecDepth 100000
theorem cat_i {x : Int32} : (Value.int x).category = 1 := rfl
theorem cat_l {x : Int64} : (Value.long x).category = 2 := rfl
theorem cat_f {x : UInt32} : (Value.float x).category = 1 := rfl
theorem cat_d {x : UInt64} : (Value.double x).category = 2 := rfl
def bind2 {α β γ : Type} (o : Option (α × β)) (f : α → β → Option γ) : Option γ := o.bind fun q => f q.1 q.2
def bind3 {α β γ δ : Type} (o : Option (α × β × γ)) (f : α → β → γ → Option δ) : Option δ := o.bind fun q => f q.1 q.2.1 q.2.2
theorem bind2_some {α β γ : Type} {a : α} {b : β} {f : α → β → Option γ} : bind2 (some (a, b)) f = f a b := rfl
theorem bind3_some {α β γ δ : Type} {a : α} {b : β} {c : γ} {f : α → β → γ → Option δ} : bind3 (some (a, b, c)) f = f a b c := rfl
/-- a loop's fuel -/
def FU : Nat := 10000
abbrev dI (d : Dt) (v k : Nat) (x : Int32) : Dt := (u2 d.1 v k x, d.2)
abbrev dF (d : Dt) (v k : Nat) (x : UInt32) : Dt := (d.1, u2 d.2.1 v k x, d.2.2)
abbrev dD (d : Dt) (v k : Nat) (x : UInt64) : Dt := (d.1, d.2.1, u2 d.2.2 v k x)
abbrev sR (S : Sp) (v k : Nat) (w : Option Nat) : Sp := (S.1, u2 S.2.1 v k w, S.2.2)
section
variable {α β : Type} {X : CT} {F : α × Sp × Dt} {Λ : β → Sp → Dt → α × Sp × Dt} {S : Sp} {d : Dt} {pc nN n fr lo : Nat} {lv lv' : List (Nat × Value)} {st st' as : List Value} {r : Option β} {own : String} {cc : ByteArray} {y : MethodName} {ws : List Cond} {o : Option Nat}
theorem J_nmD {f : Dt → Option β} (hk : ∀ d1, d1 = d → J X F Λ S d1 pc lv st (f d1)) : J X F Λ S d pc lv st ((some d).bind f) := hk d rfl
theorem J_nmS {f : Sp → Option β} (hk : ∀ S1, S1 = S → J X F Λ S1 d pc lv st (f S1)) : J X F Λ S d pc lv st ((some S).bind f) := hk S rfl
theorem J_nm2 {f : Sp → Dt → Option β} (hk : ∀ S1 d1, S1 = S → d1 = d → J X F Λ S1 d1 pc lv st (f S1 d1)) : J X F Λ S d pc lv st (bind2 (some (S, d)) f) := hk S d rfl rfl
theorem J_nmL {x : Int64} {f : Int64 → Option β} (hk : ∀ y, y = x → J X F Λ S d pc lv (.long y :: st) (f y)) : J X F Λ S d pc lv (.long x :: st) ((some x).bind f) := hk x rfl
theorem J_nmR {x : Option Nat} {f : Option Nat → Option β} (hk : ∀ y, y = x → J X F Λ S d pc lv (va_rf y :: st) (f y)) : J X F Λ S d pc lv (va_rf x :: st) ((some x).bind f) := hk x rfl
theorem J_stk (h : st = st') (hk : J X F Λ S d pc lv st' r) : J X F Λ S d pc lv st r := h ▸ hk
theorem isK_s {S : Sp} {k v : Nat} {o : Option Nat} (h : isK S k o = some v) : isK S k (some v) = some v := by
  obtain ⟨-, n, h2⟩ := isK_at h
  exact isK_of h2
/-- fewer locals -/
theorem J_sub (ks : List Nat) (hp : lv_pick lv ks = lv') (hk : J X F Λ S d pc lv' st r) : J X F Λ S d pc lv st r := by
  have hm : ∀ q ∈ lv', q ∈ lv := by
    intro q hq
    rw [← hp] at hq
    obtain ⟨k, -, hk⟩ := List.mem_filterMap.mp hq
    exact List.mem_of_getElem? hk
  refine J.lift (fun _ hs _ => hs) (fun _ h q hq => h q (hm q hq)) ?_ hk
  obtain _ | ⟨p, l, e, R, s, m, args, below, meth, c, Q, dC, dI, dA, oa, A, nL, c0, s0, ρ0, n0⟩ := X
  · exact trivial
  intro ρ H locs ls cells slots hW hL k
  refine k ls ⟨hL.1, hL.2.1, fun q hq => ?_⟩
  obtain ⟨q0, h1, h2⟩ := List.mem_map.mp hq
  exact hL.2.2 q (List.mem_map.mpr ⟨q0, hm q0 h1, h2⟩)
theorem Fn_none {γ δ : Type} {av : List Value} {rv : γ → Option Value} {Λ9 : δ → Sp → Dt → γ × Sp × Dt} : Fn y ws fr lo av S d rv Λ9 (none : Option δ) := fun _ h => nomatch h
theorem JPV_I (G : Ctx X F own cc nN) {rc : Option Int32} {kf : Int32 → Option β} (hF : Fn y ws fr lo (va_rf o :: as) S d rvI Λp rc) (row : JCall X S d pc n y ws fr lo (va_rf o :: as) (as.reverse ++ va_rf o :: st') st') (hs9 : st = (as.reverse ++ va_rf o :: st')) (hk : ∀ a, rc = some a → J X F Λ S d (pc + n) lv (.int a :: st') (kf a)) : J X F Λ S d pc lv st (rc.bind kf) := by
  subst hs9
  exact JP_I G hF row (fun h => (sk_V h).1) (fun h => (sk_V h).2) hk
theorem JQV_I (G : Ctx X F own cc nN) {rc : Option (Int32 × Dt)} {kf : Int32 → Dt → Option β} (hF : Fn y ws fr lo (va_rf o :: as) S d rvI Λw rc) (row : JCall X S d pc n y ws fr lo (va_rf o :: as) (as.reverse ++ va_rf o :: st') st') (hs9 : st = (as.reverse ++ va_rf o :: st')) (hΛ : ∀ b d', Λ b S d' = Λ b S d) (hk : ∀ a d', rc = some (a, d') → J X F Λ S d' (pc + n) lv (.int a :: st') (kf a d')) : J X F Λ S d pc lv st (bind2 rc kf) := by
  subst hs9
  exact JQ_I G hF row (fun h => (sk_V h).1) (fun h => (sk_V h).2) hΛ hk
theorem JAV_I (G : Ctx X F own cc nN) {rc : Option (Int32 × Sp × Dt)} {kf : Int32 → Sp → Dt → Option β} (hF : Fn y ws fr lo (va_rf o :: as) S d rvI Λa rc) (row : JCall X S d pc n y ws fr lo (va_rf o :: as) (as.reverse ++ va_rf o :: st') st') (hs9 : st = (as.reverse ++ va_rf o :: st')) (hΛ : ∀ b S' d', Λ b S' d' = Λ b S d) (hk : ∀ a S' d', rc = some (a, S', d') → J X F Λ S' d' (pc + n) lv (.int a :: st') (kf a S' d')) : J X F Λ S d pc lv st (bind3 rc kf) := by
  subst hs9
  exact JA_I G hF row (fun h => (sk_V h).1) (fun h => (sk_V h).2) hΛ hk
theorem JPS_I (G : Ctx X F own cc nN) {rc : Option Int32} {kf : Int32 → Option β} (hF : Fn y ws fr lo as S d rvI Λp rc) (row : JCall X S d pc n y ws fr lo as (as.reverse ++ st') st') (hs9 : st = (as.reverse ++ st')) (hk : ∀ a, rc = some a → J X F Λ S d (pc + n) lv (.int a :: st') (kf a)) : J X F Λ S d pc lv st (rc.bind kf) := by
  subst hs9
  exact JP_I G hF row (fun h => (sk_S h).1) (fun h => (sk_S h).2) hk
theorem JQS_I (G : Ctx X F own cc nN) {rc : Option (Int32 × Dt)} {kf : Int32 → Dt → Option β} (hF : Fn y ws fr lo as S d rvI Λw rc) (row : JCall X S d pc n y ws fr lo as (as.reverse ++ st') st') (hs9 : st = (as.reverse ++ st')) (hΛ : ∀ b d', Λ b S d' = Λ b S d) (hk : ∀ a d', rc = some (a, d') → J X F Λ S d' (pc + n) lv (.int a :: st') (kf a d')) : J X F Λ S d pc lv st (bind2 rc kf) := by
  subst hs9
  exact JQ_I G hF row (fun h => (sk_S h).1) (fun h => (sk_S h).2) hΛ hk
theorem JAS_I (G : Ctx X F own cc nN) {rc : Option (Int32 × Sp × Dt)} {kf : Int32 → Sp → Dt → Option β} (hF : Fn y ws fr lo as S d rvI Λa rc) (row : JCall X S d pc n y ws fr lo as (as.reverse ++ st') st') (hs9 : st = (as.reverse ++ st')) (hΛ : ∀ b S' d', Λ b S' d' = Λ b S d) (hk : ∀ a S' d', rc = some (a, S', d') → J X F Λ S' d' (pc + n) lv (.int a :: st') (kf a S' d')) : J X F Λ S d pc lv st (bind3 rc kf) := by
  subst hs9
  exact JA_I G hF row (fun h => (sk_S h).1) (fun h => (sk_S h).2) hΛ hk
theorem JPV_L (G : Ctx X F own cc nN) {rc : Option Int64} {kf : Int64 → Option β} (hF : Fn y ws fr lo (va_rf o :: as) S d rvL Λp rc) (row : JCall X S d pc n y ws fr lo (va_rf o :: as) (as.reverse ++ va_rf o :: st') st') (hs9 : st = (as.reverse ++ va_rf o :: st')) (hk : ∀ a, rc = some a → J X F Λ S d (pc + n) lv (.long a :: st') (kf a)) : J X F Λ S d pc lv st (rc.bind kf) := by
  subst hs9
  exact JP_L G hF row (fun h => (sk_V h).1) (fun h => (sk_V h).2) hk
theorem JQV_L (G : Ctx X F own cc nN) {rc : Option (Int64 × Dt)} {kf : Int64 → Dt → Option β} (hF : Fn y ws fr lo (va_rf o :: as) S d rvL Λw rc) (row : JCall X S d pc n y ws fr lo (va_rf o :: as) (as.reverse ++ va_rf o :: st') st') (hs9 : st = (as.reverse ++ va_rf o :: st')) (hΛ : ∀ b d', Λ b S d' = Λ b S d) (hk : ∀ a d', rc = some (a, d') → J X F Λ S d' (pc + n) lv (.long a :: st') (kf a d')) : J X F Λ S d pc lv st (bind2 rc kf) := by
  subst hs9
  exact JQ_L G hF row (fun h => (sk_V h).1) (fun h => (sk_V h).2) hΛ hk
theorem JAV_L (G : Ctx X F own cc nN) {rc : Option (Int64 × Sp × Dt)} {kf : Int64 → Sp → Dt → Option β} (hF : Fn y ws fr lo (va_rf o :: as) S d rvL Λa rc) (row : JCall X S d pc n y ws fr lo (va_rf o :: as) (as.reverse ++ va_rf o :: st') st') (hs9 : st = (as.reverse ++ va_rf o :: st')) (hΛ : ∀ b S' d', Λ b S' d' = Λ b S d) (hk : ∀ a S' d', rc = some (a, S', d') → J X F Λ S' d' (pc + n) lv (.long a :: st') (kf a S' d')) : J X F Λ S d pc lv st (bind3 rc kf) := by
  subst hs9
  exact JA_L G hF row (fun h => (sk_V h).1) (fun h => (sk_V h).2) hΛ hk
theorem JPS_L (G : Ctx X F own cc nN) {rc : Option Int64} {kf : Int64 → Option β} (hF : Fn y ws fr lo as S d rvL Λp rc) (row : JCall X S d pc n y ws fr lo as (as.reverse ++ st') st') (hs9 : st = (as.reverse ++ st')) (hk : ∀ a, rc = some a → J X F Λ S d (pc + n) lv (.long a :: st') (kf a)) : J X F Λ S d pc lv st (rc.bind kf) := by
  subst hs9
  exact JP_L G hF row (fun h => (sk_S h).1) (fun h => (sk_S h).2) hk
theorem JQS_L (G : Ctx X F own cc nN) {rc : Option (Int64 × Dt)} {kf : Int64 → Dt → Option β} (hF : Fn y ws fr lo as S d rvL Λw rc) (row : JCall X S d pc n y ws fr lo as (as.reverse ++ st') st') (hs9 : st = (as.reverse ++ st')) (hΛ : ∀ b d', Λ b S d' = Λ b S d) (hk : ∀ a d', rc = some (a, d') → J X F Λ S d' (pc + n) lv (.long a :: st') (kf a d')) : J X F Λ S d pc lv st (bind2 rc kf) := by
  subst hs9
  exact JQ_L G hF row (fun h => (sk_S h).1) (fun h => (sk_S h).2) hΛ hk
theorem JAS_L (G : Ctx X F own cc nN) {rc : Option (Int64 × Sp × Dt)} {kf : Int64 → Sp → Dt → Option β} (hF : Fn y ws fr lo as S d rvL Λa rc) (row : JCall X S d pc n y ws fr lo as (as.reverse ++ st') st') (hs9 : st = (as.reverse ++ st')) (hΛ : ∀ b S' d', Λ b S' d' = Λ b S d) (hk : ∀ a S' d', rc = some (a, S', d') → J X F Λ S' d' (pc + n) lv (.long a :: st') (kf a S' d')) : J X F Λ S d pc lv st (bind3 rc kf) := by
  subst hs9
  exact JA_L G hF row (fun h => (sk_S h).1) (fun h => (sk_S h).2) hΛ hk
theorem JPV_R (G : Ctx X F own cc nN) {rc : Option (Option Nat)} {kf : (Option Nat) → Option β} (hF : Fn y ws fr lo (va_rf o :: as) S d rvR Λp rc) (row : JCall X S d pc n y ws fr lo (va_rf o :: as) (as.reverse ++ va_rf o :: st') st') (hs9 : st = (as.reverse ++ va_rf o :: st')) (hk : ∀ a, rc = some a → J X F Λ S d (pc + n) lv (va_rf a :: st') (kf a)) : J X F Λ S d pc lv st (rc.bind kf) := by
  subst hs9
  exact JP_R G hF row (fun h => (sk_V h).1) (fun h => (sk_V h).2) hk
theorem JQV_R (G : Ctx X F own cc nN) {rc : Option ((Option Nat) × Dt)} {kf : (Option Nat) → Dt → Option β} (hF : Fn y ws fr lo (va_rf o :: as) S d rvR Λw rc) (row : JCall X S d pc n y ws fr lo (va_rf o :: as) (as.reverse ++ va_rf o :: st') st') (hs9 : st = (as.reverse ++ va_rf o :: st')) (hΛ : ∀ b d', Λ b S d' = Λ b S d) (hk : ∀ a d', rc = some (a, d') → J X F Λ S d' (pc + n) lv (va_rf a :: st') (kf a d')) : J X F Λ S d pc lv st (bind2 rc kf) := by
  subst hs9
  exact JQ_R G hF row (fun h => (sk_V h).1) (fun h => (sk_V h).2) hΛ hk
theorem JAV_R (G : Ctx X F own cc nN) {rc : Option ((Option Nat) × Sp × Dt)} {kf : (Option Nat) → Sp → Dt → Option β} (hF : Fn y ws fr lo (va_rf o :: as) S d rvR Λa rc) (row : JCall X S d pc n y ws fr lo (va_rf o :: as) (as.reverse ++ va_rf o :: st') st') (hs9 : st = (as.reverse ++ va_rf o :: st')) (hΛ : ∀ b S' d', Λ b S' d' = Λ b S d) (hk : ∀ a S' d', rc = some (a, S', d') → J X F Λ S' d' (pc + n) lv (va_rf a :: st') (kf a S' d')) : J X F Λ S d pc lv st (bind3 rc kf) := by
  subst hs9
  exact JA_R G hF row (fun h => (sk_V h).1) (fun h => (sk_V h).2) hΛ hk
theorem JPS_R (G : Ctx X F own cc nN) {rc : Option (Option Nat)} {kf : (Option Nat) → Option β} (hF : Fn y ws fr lo as S d rvR Λp rc) (row : JCall X S d pc n y ws fr lo as (as.reverse ++ st') st') (hs9 : st = (as.reverse ++ st')) (hk : ∀ a, rc = some a → J X F Λ S d (pc + n) lv (va_rf a :: st') (kf a)) : J X F Λ S d pc lv st (rc.bind kf) := by
  subst hs9
  exact JP_R G hF row (fun h => (sk_S h).1) (fun h => (sk_S h).2) hk
theorem JQS_R (G : Ctx X F own cc nN) {rc : Option ((Option Nat) × Dt)} {kf : (Option Nat) → Dt → Option β} (hF : Fn y ws fr lo as S d rvR Λw rc) (row : JCall X S d pc n y ws fr lo as (as.reverse ++ st') st') (hs9 : st = (as.reverse ++ st')) (hΛ : ∀ b d', Λ b S d' = Λ b S d) (hk : ∀ a d', rc = some (a, d') → J X F Λ S d' (pc + n) lv (va_rf a :: st') (kf a d')) : J X F Λ S d pc lv st (bind2 rc kf) := by
  subst hs9
  exact JQ_R G hF row (fun h => (sk_S h).1) (fun h => (sk_S h).2) hΛ hk
theorem JAS_R (G : Ctx X F own cc nN) {rc : Option ((Option Nat) × Sp × Dt)} {kf : (Option Nat) → Sp → Dt → Option β} (hF : Fn y ws fr lo as S d rvR Λa rc) (row : JCall X S d pc n y ws fr lo as (as.reverse ++ st') st') (hs9 : st = (as.reverse ++ st')) (hΛ : ∀ b S' d', Λ b S' d' = Λ b S d) (hk : ∀ a S' d', rc = some (a, S', d') → J X F Λ S' d' (pc + n) lv (va_rf a :: st') (kf a S' d')) : J X F Λ S d pc lv st (bind3 rc kf) := by
  subst hs9
  exact JA_R G hF row (fun h => (sk_S h).1) (fun h => (sk_S h).2) hΛ hk
theorem JPV_U (G : Ctx X F own cc nN) {rc : Option Unit} {kf : Unit → Option β} (hF : Fn y ws fr lo (va_rf o :: as) S d rvU Λp rc) (row : JCall X S d pc n y ws fr lo (va_rf o :: as) (as.reverse ++ va_rf o :: st') st') (hs9 : st = (as.reverse ++ va_rf o :: st')) (hk : ∀ a, rc = some a → J X F Λ S d (pc + n) lv (st') (kf a)) : J X F Λ S d pc lv st (rc.bind kf) := by
  subst hs9
  exact JP_U G hF row (fun h => (sk_V h).1) (fun h => (sk_V h).2) hk
theorem JQV_U (G : Ctx X F own cc nN) {rc : Option (Unit × Dt)} {kf : Unit → Dt → Option β} (hF : Fn y ws fr lo (va_rf o :: as) S d rvU Λw rc) (row : JCall X S d pc n y ws fr lo (va_rf o :: as) (as.reverse ++ va_rf o :: st') st') (hs9 : st = (as.reverse ++ va_rf o :: st')) (hΛ : ∀ b d', Λ b S d' = Λ b S d) (hk : ∀ a d', rc = some (a, d') → J X F Λ S d' (pc + n) lv (st') (kf a d')) : J X F Λ S d pc lv st (bind2 rc kf) := by
  subst hs9
  exact JQ_U G hF row (fun h => (sk_V h).1) (fun h => (sk_V h).2) hΛ hk
theorem JAV_U (G : Ctx X F own cc nN) {rc : Option (Unit × Sp × Dt)} {kf : Unit → Sp → Dt → Option β} (hF : Fn y ws fr lo (va_rf o :: as) S d rvU Λa rc) (row : JCall X S d pc n y ws fr lo (va_rf o :: as) (as.reverse ++ va_rf o :: st') st') (hs9 : st = (as.reverse ++ va_rf o :: st')) (hΛ : ∀ b S' d', Λ b S' d' = Λ b S d) (hk : ∀ a S' d', rc = some (a, S', d') → J X F Λ S' d' (pc + n) lv (st') (kf a S' d')) : J X F Λ S d pc lv st (bind3 rc kf) := by
  subst hs9
  exact JA_U G hF row (fun h => (sk_V h).1) (fun h => (sk_V h).2) hΛ hk
theorem JPS_U (G : Ctx X F own cc nN) {rc : Option Unit} {kf : Unit → Option β} (hF : Fn y ws fr lo as S d rvU Λp rc) (row : JCall X S d pc n y ws fr lo as (as.reverse ++ st') st') (hs9 : st = (as.reverse ++ st')) (hk : ∀ a, rc = some a → J X F Λ S d (pc + n) lv (st') (kf a)) : J X F Λ S d pc lv st (rc.bind kf) := by
  subst hs9
  exact JP_U G hF row (fun h => (sk_S h).1) (fun h => (sk_S h).2) hk
theorem JQS_U (G : Ctx X F own cc nN) {rc : Option (Unit × Dt)} {kf : Unit → Dt → Option β} (hF : Fn y ws fr lo as S d rvU Λw rc) (row : JCall X S d pc n y ws fr lo as (as.reverse ++ st') st') (hs9 : st = (as.reverse ++ st')) (hΛ : ∀ b d', Λ b S d' = Λ b S d) (hk : ∀ a d', rc = some (a, d') → J X F Λ S d' (pc + n) lv (st') (kf a d')) : J X F Λ S d pc lv st (bind2 rc kf) := by
  subst hs9
  exact JQ_U G hF row (fun h => (sk_S h).1) (fun h => (sk_S h).2) hΛ hk
theorem JAS_U (G : Ctx X F own cc nN) {rc : Option (Unit × Sp × Dt)} {kf : Unit → Sp → Dt → Option β} (hF : Fn y ws fr lo as S d rvU Λa rc) (row : JCall X S d pc n y ws fr lo as (as.reverse ++ st') st') (hs9 : st = (as.reverse ++ st')) (hΛ : ∀ b S' d', Λ b S' d' = Λ b S d) (hk : ∀ a S' d', rc = some (a, S', d') → J X F Λ S' d' (pc + n) lv (st') (kf a S' d')) : J X F Λ S d pc lv st (bind3 rc kf) := by
  subst hs9
  exact JA_U G hF row (fun h => (sk_S h).1) (fun h => (sk_S h).2) hΛ hk
end
theorem ci_m1 : Int32.ofInt (-1) = (-1 : Int32) := by decide
theorem ci_0 : Int32.ofInt (0) = (0 : Int32) := by decide
theorem ci_1 : Int32.ofInt (1) = (1 : Int32) := by decide
theorem ci_2 : Int32.ofInt (2) = (2 : Int32) := by decide
theorem ci_3 : Int32.ofInt (3) = (3 : Int32) := by decide
theorem ci_4 : Int32.ofInt (4) = (4 : Int32) := by decide
theorem ci_5 : Int32.ofInt (5) = (5 : Int32) := by decide
theorem cl_0 : Int64.ofNat ((0 : Fin 2) : Nat) = (0 : Int64) := by decide
theorem cl_1 : Int64.ofNat ((1 : Fin 2) : Nat) = (1 : Int64) := by decide
