/-! THE PLAIN LAW: what a Told tells, as a row of the model's world (a first draft of the relation's parts) -/
set_option maxRecDepth 100000
/-- bit k of x -/
abbrev bitI (x : Int32) (k : Nat) : Prop := ((x >>> nI k) &&& 1) = 1
/-- the nodes that follow on node k of task t, as bits, by the model's row (up to node n) -/
def folN (w : Nat → Int32) (t k : Nat) : Nat → Int32
  | 0 => 0
  | n + 1 => if k < n ∧ bitI (w (46 + 2 * (6 * t + n) + 1)) k then folN w t k n ||| (1 <<< nI n) else folN w t k n
/-- the object a is task t of the row w with nd nodes -/
def TaskT (S : Sp) (d : Dt) (w : Nat → Int32) (t nd a : Nat) : Prop :=
  S.1[a]? = some (12, 0) ∧ (∀ f, f < 6 → d.1 a f = w (11 + 7 * t + f)) ∧ d.1 a 8 = nI nd ∧ w (11 + 7 * t + 6) = nI nd ∧ nd ≤ 6 ∧ ∃ u b, S.2.1 a 6 = some u ∧ S.2.1 a 7 = some b ∧ S.1[u]? = some (50, 6) ∧ S.1[b]? = some (50, 6) ∧ (∀ n, n < nd → d.1 u n = w (46 + 2 * (6 * t + n))) ∧ ∀ k, k < nd → d.1 b k = folN w t k nd
/-- the object a is injection i of the row w -/
def InjT (S : Sp) (d : Dt) (w : Nat → Int32) (i a : Nat) : Prop := S.1[a]? = some (13, 0) ∧ ∀ f, f < 5 → d.1 a f = w (106 + 5 * i + f)
/-- an ArrayList at l with array e of cap places: n elements -/
def ListT (S : Sp) (d : Dt) (l e cap n : Nat) (el : Nat → Nat) : Prop := S.1[l]? = some (16, 0) ∧ S.2.1 l 1 = some e ∧ S.1[e]? = some (58, cap) ∧ d.1 l 2 = nI n ∧ n ≤ cap ∧ (∀ i, i < n → S.2.1 e i = some (el i)) ∧ ∀ i, i < cap → n ≤ i → S.2.1 e i = none
/-- a row of told numbers is well formed: nw watchers, nt tasks of nd t nodes, ni injections, na of them acts -/
def WF (w : Nat → Int32) (nw nt ni na : Nat) (nd : Nat → Nat) : Prop :=
  (w 3 = nI nw ∧ nw ≤ 3) ∧ (w 4 = nI nt ∧ nt ≤ 5) ∧ (w 5 = nI (ni - na) ∧ w 6 = nI na ∧ na ≤ ni ∧ ni - na ≤ 8 ∧ na ≤ 11) ∧
  (∃ h cy lo ln, w 0 = nI h ∧ h ≤ 200 ∧ w 1 = nI cy ∧ cy ≤ 50 ∧ w 2 = nI lo ∧ lo ≤ 9 ∧ w 7 = nI ln ∧ ln ≤ 1000 ∧ (0 < ln → 20 ≤ h ∧ 5 ≤ cy) ∧ (ln = 0 → nw = 0 ∧ nt = 0 ∧ ni = 0)) ∧
  (∀ v, v < nw → (v = 0 ∧ w 8 = -1) ∨ ∃ u, u < v ∧ w (8 + v) = nI u) ∧
  (∀ t, t < nt → (1 ≤ nd t ∧ nd t ≤ 6 ∧ w (11 + 7 * t + 6) = nI (nd t)) ∧ (∃ a p o c le mo, w (11 + 7 * t) = nI a ∧ a < nw ∧ w (11 + 7 * t + 1) = nI p ∧ 4 ≤ p ∧ p ≤ 60 ∧ w (11 + 7 * t + 2) = nI o ∧ o ≤ 99 ∧ w (11 + 7 * t + 3) = nI c ∧ o < c ∧ c ≤ 120 ∧ w (11 + 7 * t + 4) = nI le ∧ le ≤ 20 ∧ w (11 + 7 * t + 5) = nI mo ∧ le ≤ mo ∧ mo ≤ 40) ∧
    ∀ n, n < nd t → ∃ u z, w (46 + 2 * (6 * t + n)) = nI u ∧ 1 ≤ u ∧ u ≤ 9 ∧ w (46 + 2 * (6 * t + n) + 1) = nI z ∧ z < 2 ^ n ∧ (0 < n → 0 < z)) ∧
  ∀ i, i < ni → (∃ v j, w (106 + 5 * i) = nI 5 ∧ w (106 + 5 * i + 1) = nI v ∧ v < nw ∧ w (106 + 5 * i + 2) = nI j ∧ j < 200 ∧ w (106 + 5 * i + 3) = -1 ∧ w (106 + 5 * i + 4) = -1) ∨
    ∃ k t j tm, w (106 + 5 * i) = nI k ∧ k ≤ 4 ∧ w (106 + 5 * i + 1) = nI t ∧ t < nt ∧ w (106 + 5 * i + 2) = nI j ∧ j ≤ 50 ∧ ((k = 4 ∧ w (106 + 5 * i + 3) = -1) ∨ k < 4 ∧ ∃ n, n < nd t ∧ w (106 + 5 * i + 3) = nI n) ∧ w (106 + 5 * i + 4) = nI tm ∧ 1 ≤ tm ∧ tm ≤ 9
/-- the Told at a tells the row w -/
def ToldT (S : Sp) (d : Dt) (w : Nat → Int32) (a nw nt ni na : Nat) (nd : Nat → Nat) (lt et ct li ei ci ov : Nat) (et9 ei9 : Nat → Nat) : Prop :=
  S.1[a]? = some (1, 0) ∧ S.2.1 a 0 = some lt ∧ S.2.1 a 1 = some li ∧ S.2.1 a 2 = some ov ∧ (S.1[ov]? = some (50, 3) ∧ ov ≠ 18 ∧ ov ≠ 19) ∧ ListT S d lt et ct nt et9 ∧ ListT S d li ei ci ni ei9 ∧ (5 ≤ ct ∧ ct ≤ 60) ∧ (18 ≤ ci ∧ ci ≤ 60) ∧
  (∀ t, t < nt → TaskT S d w t (nd t) (et9 t)) ∧ (∀ i, i < ni → InjT S d w i (ei9 i)) ∧ (∀ v, v < nw → d.1 ov v = w (8 + v)) ∧
  d.1 a 3 = w 0 ∧ d.1 a 4 = w 1 ∧ d.1 a 5 = w 2 ∧ d.1 a 6 = w 3 ∧ d.1 a 7 = w 5 ∧ d.1 a 8 = w 7 ∧ WF w nw nt ni na nd
