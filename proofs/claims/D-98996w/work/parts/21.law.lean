/-! PRINTED BY dec.py: the law's own body -/
set_option maxRecDepth 100000
def e0_ : pm_M := (fun _ _ => 0, fun _ _ => 0, fun _ _ => none, fun _ => (0, 0), 0, 0)
def eE_ : pm_M := (fun _ _ => 0, fun _ _ => 0, fun _ _ => none, fun _ => (0, 0), 601024, 7293034)
def f_L_law_L23 (F : Nat) (sx_ : Nat → Int32) (sN_ : Nat) (p13 : pm_A) (p15 : pm_A) (p17 : pm_A) : Nat → Int32 → pm_M → Option (Unit × pm_M)
  | 0, _, _ => none
  | n19 + 1, x21, m20 =>
    if ((Int32.ofNat sN_) - 7) < x21 then
      some ((), m20)
    else
      iz_ (!(ib_ x21 sN_)) <|
      if ((sx_ x21.toNatClampNeg) &&& 63).toInt = 0 then
        iz_ (!(ib_ (x21 + 1) sN_)) <|
        iz_ (!(ib_ (x21 + 2) sN_)) <|
        iz_ (!(ib_ (x21 + 3) sN_)) <|
        iz_ (!(ib_ (x21 + 4) sN_)) <|
        iz_ (!(ib_ (x21 + 5) sN_)) <|
        bm_ (f_X1_feed F p13 (sx_ (x21 + 1).toNatClampNeg) (sx_ (x21 + 2).toNatClampNeg) (sx_ (x21 + 3).toNatClampNeg) (sx_ (x21 + 4).toNatClampNeg) (sx_ (x21 + 5).toNatClampNeg) m20) fun v32 m30 =>
        iz_ (!(ib_ (x21 + 1) sN_)) <|
        iz_ (!(ib_ (x21 + 2) sN_)) <|
        iz_ (!(ib_ (x21 + 3) sN_)) <|
        iz_ (!(ib_ (x21 + 4) sN_)) <|
        iz_ (!(ib_ (x21 + 5) sN_)) <|
        bm_ (f_X8_feed F p15 (sx_ (x21 + 1).toNatClampNeg) (sx_ (x21 + 2).toNatClampNeg) (sx_ (x21 + 3).toNatClampNeg) (sx_ (x21 + 4).toNatClampNeg) (sx_ (x21 + 5).toNatClampNeg) m30) fun v40 m38 =>
        if v32 = v40 then
          (f_L_law_L23 F sx_ sN_ p13 p15 p17 n19) (x21 + 7) m38
        else
          none
      else
      if ((sx_ x21.toNatClampNeg) &&& 63).toInt = 1 then
        iz_ (!(ib_ (x21 + 1) sN_)) <|
        bm_ (f_X0_register F (some p13) (sx_ (x21 + 1).toNatClampNeg) (some p17) m20) fun v46 m44 =>
        iz_ (!(ib_ (x21 + 1) sN_)) <|
        bm_ (f_X8_register F p15 (sx_ (x21 + 1).toNatClampNeg) m44) fun v50 m48 =>
        bm_ (f_X8_thrown F p15 m48) fun v53 m51 =>
        if v53 = v46 then
          if v46 = 0 then
            iz_ (!(ib_ 0 p17.2.1)) <|
            if (lg_cmp (gL_ m51 p17 (0 : Int32).toNatClampNeg) v50.toInt64) = 0 then
              (f_L_law_L23 F sx_ sN_ p13 p15 p17 n19) (x21 + 7) m51
            else
              none
          else
            (f_L_law_L23 F sx_ sN_ p13 p15 p17 n19) (x21 + 7) m51
        else
          none
      else
      if ((sx_ x21.toNatClampNeg) &&& 63).toInt = 2 then
        iz_ (!(ib_ (x21 + 1) sN_)) <|
        iz_ (!(ib_ (x21 + 2) sN_)) <|
        bm_ (f_X0_law F (some p13) (sx_ (x21 + 1).toNatClampNeg) (sx_ (x21 + 2).toNatClampNeg) (some p17) m20) fun v63 m61 =>
        iz_ (!(ib_ (x21 + 1) sN_)) <|
        iz_ (!(ib_ (x21 + 2) sN_)) <|
        bm_ (f_X8_law F p15 (sx_ (x21 + 1).toNatClampNeg) (sx_ (x21 + 2).toNatClampNeg) m61) fun v68 m66 =>
        bm_ (f_X8_thrown F p15 m66) fun v71 m69 =>
        if v71 = v63 then
          if v63 = 0 then
            iz_ (!(ib_ 0 p17.2.1)) <|
            if (lg_cmp (gL_ m69 p17 (0 : Int32).toNatClampNeg) v68.toInt64) = 0 then
              (f_L_law_L23 F sx_ sN_ p13 p15 p17 n19) (x21 + 7) m69
            else
              none
          else
            (f_L_law_L23 F sx_ sN_ p13 p15 p17 n19) (x21 + 7) m69
        else
          none
      else
      if ((sx_ x21.toNatClampNeg) &&& 63).toInt = 3 then
        iz_ (!(ib_ (x21 + 1) sN_)) <|
        bm_ (f_X0_work F (some p13) (sx_ (x21 + 1).toNatClampNeg) (some p17) m20) fun v80 m78 =>
        iz_ (!(ib_ (x21 + 1) sN_)) <|
        bm_ (f_X8_work F p15 (sx_ (x21 + 1).toNatClampNeg) m78) fun v84 m82 =>
        bm_ (f_X8_thrown F p15 m82) fun v87 m85 =>
        if v87 = v80 then
          if v80 = 0 then
            iz_ (!(ib_ 0 p17.2.1)) <|
            if (lg_cmp (gL_ m85 p17 (0 : Int32).toNatClampNeg) v84.toInt64) = 0 then
              (f_L_law_L23 F sx_ sN_ p13 p15 p17 n19) (x21 + 7) m85
            else
              none
          else
            (f_L_law_L23 F sx_ sN_ p13 p15 p17 n19) (x21 + 7) m85
        else
          none
      else
      if ((sx_ x21.toNatClampNeg) &&& 63).toInt = 4 then
        iz_ (!(ib_ (x21 + 1) sN_)) <|
        bm_ (f_X0_book F (some p13) (sx_ (x21 + 1).toNatClampNeg) (some p17) m20) fun v96 m94 =>
        iz_ (!(ib_ (x21 + 1) sN_)) <|
        bm_ (f_X8_book F p15 (sx_ (x21 + 1).toNatClampNeg) m94) fun v100 m98 =>
        bm_ (f_X8_thrown F p15 m98) fun v103 m101 =>
        if v103 = v96 then
          if v96 = 0 then
            iz_ (!(ib_ 0 p17.2.1)) <|
            if (lg_cmp (gL_ m101 p17 (0 : Int32).toNatClampNeg) v100.toInt64) = 0 then
              (f_L_law_L23 F sx_ sN_ p13 p15 p17 n19) (x21 + 7) m101
            else
              none
          else
            (f_L_law_L23 F sx_ sN_ p13 p15 p17 n19) (x21 + 7) m101
        else
          none
      else
      if ((sx_ x21.toNatClampNeg) &&& 63).toInt = 5 then
        bm_ (f_X1_fault F p13 m20) fun v111 m109 =>
        bm_ (f_X8_fault F p15 m109) fun v114 m112 =>
        if v111 = v114 then
          (f_L_law_L23 F sx_ sN_ p13 p15 p17 n19) (x21 + 7) m112
        else
          none
      else
      if ((sx_ x21.toNatClampNeg) &&& 63).toInt = 6 then
        bm_ (f_X1_undo F p13 m20) fun v119 m117 =>
        bm_ (f_X8_undo F p15 m117) fun v122 m120 =>
        if v119 = v122 then
          (f_L_law_L23 F sx_ sN_ p13 p15 p17 n19) (x21 + 7) m120
        else
          none
      else
      if ((sx_ x21.toNatClampNeg) &&& 63).toInt = 7 then
        iz_ (!(ib_ (x21 + 1) sN_)) <|
        bm_ (f_X0_told F (some p13) (sx_ (x21 + 1).toNatClampNeg) (some p17) m20) fun v128 m126 =>
        iz_ (!(ib_ (x21 + 1) sN_)) <|
        bm_ (f_X8_told F p15 (sx_ (x21 + 1).toNatClampNeg) m126) fun v132 m130 =>
        bm_ (f_X8_thrown F p15 m130) fun v135 m133 =>
        if v135 = v128 then
          if v128 = 0 then
            iz_ (!(ib_ 0 p17.2.1)) <|
            if (lg_cmp (gL_ m133 p17 (0 : Int32).toNatClampNeg) v132.toInt64) = 0 then
              (f_L_law_L23 F sx_ sN_ p13 p15 p17 n19) (x21 + 7) m133
            else
              none
          else
            (f_L_law_L23 F sx_ sN_ p13 p15 p17 n19) (x21 + 7) m133
        else
          none
      else
      if ((sx_ x21.toNatClampNeg) &&& 63).toInt = 8 then
        iz_ (!(ib_ (x21 + 1) sN_)) <|
        iz_ (!(ib_ (x21 + 2) sN_)) <|
        bm_ (f_X0_signer F (some p13) (sx_ (x21 + 1).toNatClampNeg) (sx_ (x21 + 2).toNatClampNeg) (some p17) m20) fun v145 m143 =>
        iz_ (!(ib_ (x21 + 1) sN_)) <|
        iz_ (!(ib_ (x21 + 2) sN_)) <|
        bm_ (f_X8_signer F p15 (sx_ (x21 + 1).toNatClampNeg) (sx_ (x21 + 2).toNatClampNeg) m143) fun v150 m148 =>
        bm_ (f_X8_thrown F p15 m148) fun v153 m151 =>
        if v153 = v145 then
          if v145 = 0 then
            iz_ (!(ib_ 0 p17.2.1)) <|
            if (lg_cmp (gL_ m151 p17 (0 : Int32).toNatClampNeg) v150.toInt64) = 0 then
              (f_L_law_L23 F sx_ sN_ p13 p15 p17 n19) (x21 + 7) m151
            else
              none
          else
            (f_L_law_L23 F sx_ sN_ p13 p15 p17 n19) (x21 + 7) m151
        else
          none
      else
      if ((sx_ x21.toNatClampNeg) &&& 63).toInt = 9 then
        iz_ (!(ib_ (x21 + 1) sN_)) <|
        iz_ (!(ib_ (x21 + 2) sN_)) <|
        bm_ (f_X0_taker F (some p13) (sx_ (x21 + 1).toNatClampNeg) (sx_ (x21 + 2).toNatClampNeg) (some p17) m20) fun v163 m161 =>
        iz_ (!(ib_ (x21 + 1) sN_)) <|
        iz_ (!(ib_ (x21 + 2) sN_)) <|
        bm_ (f_X8_taker F p15 (sx_ (x21 + 1).toNatClampNeg) (sx_ (x21 + 2).toNatClampNeg) m161) fun v168 m166 =>
        bm_ (f_X8_thrown F p15 m166) fun v171 m169 =>
        if v171 = v163 then
          if v163 = 0 then
            iz_ (!(ib_ 0 p17.2.1)) <|
            if (lg_cmp (gL_ m169 p17 (0 : Int32).toNatClampNeg) v168.toInt64) = 0 then
              (f_L_law_L23 F sx_ sN_ p13 p15 p17 n19) (x21 + 7) m169
            else
              none
          else
            (f_L_law_L23 F sx_ sN_ p13 p15 p17 n19) (x21 + 7) m169
        else
          none
      else
      if ((sx_ x21.toNatClampNeg) &&& 63).toInt = 10 then
        iz_ (!(ib_ (x21 + 1) sN_)) <|
        iz_ (!(ib_ (x21 + 2) sN_)) <|
        bm_ (f_X0_asks F (some p13) (sx_ (x21 + 1).toNatClampNeg) (sx_ (x21 + 2).toNatClampNeg) (some p17) m20) fun v181 m179 =>
        iz_ (!(ib_ (x21 + 1) sN_)) <|
        iz_ (!(ib_ (x21 + 2) sN_)) <|
        bm_ (f_X8_asks F p15 (sx_ (x21 + 1).toNatClampNeg) (sx_ (x21 + 2).toNatClampNeg) m179) fun v186 m184 =>
        bm_ (f_X8_thrown F p15 m184) fun v189 m187 =>
        if v189 = v181 then
          if v181 = 0 then
            iz_ (!(ib_ 0 p17.2.1)) <|
            if (lg_cmp (gL_ m187 p17 (0 : Int32).toNatClampNeg) v186.toInt64) = 0 then
              (f_L_law_L23 F sx_ sN_ p13 p15 p17 n19) (x21 + 7) m187
            else
              none
          else
            (f_L_law_L23 F sx_ sN_ p13 p15 p17 n19) (x21 + 7) m187
        else
          none
      else
      if ((sx_ x21.toNatClampNeg) &&& 63).toInt = 11 then
        iz_ (!(ib_ (x21 + 1) sN_)) <|
        bm_ (f_X0_owes F (some p13) (sx_ (x21 + 1).toNatClampNeg) (some p17) m20) fun v198 m196 =>
        iz_ (!(ib_ (x21 + 1) sN_)) <|
        bm_ (f_X8_owes F p15 (sx_ (x21 + 1).toNatClampNeg) m196) fun v202 m200 =>
        bm_ (f_X8_thrown F p15 m200) fun v205 m203 =>
        if v205 = v198 then
          if v198 = 0 then
            iz_ (!(ib_ 0 p17.2.1)) <|
            if (lg_cmp (gL_ m203 p17 (0 : Int32).toNatClampNeg) v202.toInt64) = 0 then
              (f_L_law_L23 F sx_ sN_ p13 p15 p17 n19) (x21 + 7) m203
            else
              none
          else
            (f_L_law_L23 F sx_ sN_ p13 p15 p17 n19) (x21 + 7) m203
        else
          none
      else
      if ((sx_ x21.toNatClampNeg) &&& 63).toInt = 12 then
        iz_ (!(ib_ (x21 + 1) sN_)) <|
        iz_ (!(ib_ (x21 + 2) sN_)) <|
        iz_ (!(ib_ (x21 + 3) sN_)) <|
        iz_ (!(ib_ (x21 + 4) sN_)) <|
        iz_ (!(ib_ (x21 + 5) sN_)) <|
        iz_ (!(ib_ (x21 + 6) sN_)) <|
        bm_ (f_X0_would F (some p13) (sx_ (x21 + 1).toNatClampNeg) (sx_ (x21 + 2).toNatClampNeg) (sx_ (x21 + 3).toNatClampNeg) (sx_ (x21 + 4).toNatClampNeg) (sx_ (x21 + 5).toNatClampNeg) (sx_ (x21 + 6).toNatClampNeg) (some p17) m20) fun v219 m217 =>
        iz_ (!(ib_ (x21 + 1) sN_)) <|
        iz_ (!(ib_ (x21 + 2) sN_)) <|
        iz_ (!(ib_ (x21 + 3) sN_)) <|
        iz_ (!(ib_ (x21 + 4) sN_)) <|
        iz_ (!(ib_ (x21 + 5) sN_)) <|
        iz_ (!(ib_ (x21 + 6) sN_)) <|
        bm_ (f_X8_would F p15 (sx_ (x21 + 1).toNatClampNeg) (sx_ (x21 + 2).toNatClampNeg) (sx_ (x21 + 3).toNatClampNeg) (sx_ (x21 + 4).toNatClampNeg) (sx_ (x21 + 5).toNatClampNeg) (sx_ (x21 + 6).toNatClampNeg) m217) fun v228 m226 =>
        bm_ (f_X8_thrown F p15 m226) fun v231 m229 =>
        if v231 = v219 then
          if v219 = 0 then
            iz_ (!(ib_ 0 p17.2.1)) <|
            if (lg_cmp (gL_ m229 p17 (0 : Int32).toNatClampNeg) v228.toInt64) = 0 then
              (f_L_law_L23 F sx_ sN_ p13 p15 p17 n19) (x21 + 7) m229
            else
              none
          else
            (f_L_law_L23 F sx_ sN_ p13 p15 p17 n19) (x21 + 7) m229
        else
          none
      else
      if ((sx_ x21.toNatClampNeg) &&& 63).toInt = 13 then
        bm_ (f_X1_held F p13 m20) fun v239 m237 =>
        bm_ (f_X8_held F p15 m237) fun v242 m240 =>
        if v239 = v242 then
          (f_L_law_L23 F sx_ sN_ p13 p15 p17 n19) (x21 + 7) m240
        else
          none
      else
      if ((sx_ x21.toNatClampNeg) &&& 63).toInt = 14 then
        iz_ (!(ib_ (x21 + 1) sN_)) <|
        bm_ (f_X0_freeIn F (some p13) (sx_ (x21 + 1).toNatClampNeg) (some p17) m20) fun v248 m246 =>
        iz_ (!(ib_ (x21 + 1) sN_)) <|
        bm_ (f_X8_freeIn F p15 (sx_ (x21 + 1).toNatClampNeg) m246) fun v252 m250 =>
        bm_ (f_X8_thrown F p15 m250) fun v255 m253 =>
        if v255 = v248 then
          if v248 = 0 then
            iz_ (!(ib_ 0 p17.2.1)) <|
            if (lg_cmp (gL_ m253 p17 (0 : Int32).toNatClampNeg) v252.toInt64) = 0 then
              (f_L_law_L23 F sx_ sN_ p13 p15 p17 n19) (x21 + 7) m253
            else
              none
          else
            (f_L_law_L23 F sx_ sN_ p13 p15 p17 n19) (x21 + 7) m253
        else
          none
      else
      if ((sx_ x21.toNatClampNeg) &&& 63).toInt = 15 then
        iz_ (!(ib_ (x21 + 1) sN_)) <|
        bm_ (f_X0_otherwise F (some p13) (sx_ (x21 + 1).toNatClampNeg) (some p17) m20) fun v264 m262 =>
        iz_ (!(ib_ (x21 + 1) sN_)) <|
        bm_ (f_X8_otherwise F p15 (sx_ (x21 + 1).toNatClampNeg) m262) fun v268 m266 =>
        bm_ (f_X8_thrown F p15 m266) fun v271 m269 =>
        if v271 = v264 then
          if v264 = 0 then
            iz_ (!(ib_ 0 p17.2.1)) <|
            if (lg_cmp (gL_ m269 p17 (0 : Int32).toNatClampNeg) v268.toInt64) = 0 then
              (f_L_law_L23 F sx_ sN_ p13 p15 p17 n19) (x21 + 7) m269
            else
              none
          else
            (f_L_law_L23 F sx_ sN_ p13 p15 p17 n19) (x21 + 7) m269
        else
          none
      else
      if ((sx_ x21.toNatClampNeg) &&& 63).toInt = 16 then
        iz_ (!(ib_ (x21 + 1) sN_)) <|
        iz_ (!(ib_ (x21 + 2) sN_)) <|
        bm_ (f_X0_ahead F (some p13) (sx_ (x21 + 1).toNatClampNeg) (sx_ (x21 + 2).toNatClampNeg) (some p17) m20) fun v281 m279 =>
        iz_ (!(ib_ (x21 + 1) sN_)) <|
        iz_ (!(ib_ (x21 + 2) sN_)) <|
        bm_ (f_X8_ahead F p15 (sx_ (x21 + 1).toNatClampNeg) (sx_ (x21 + 2).toNatClampNeg) m279) fun v286 m284 =>
        bm_ (f_X8_thrown F p15 m284) fun v289 m287 =>
        if v289 = v281 then
          if v281 = 0 then
            iz_ (!(ib_ 0 p17.2.1)) <|
            if (lg_cmp (gL_ m287 p17 (0 : Int32).toNatClampNeg) v286.toInt64) = 0 then
              (f_L_law_L23 F sx_ sN_ p13 p15 p17 n19) (x21 + 7) m287
            else
              none
          else
            (f_L_law_L23 F sx_ sN_ p13 p15 p17 n19) (x21 + 7) m287
        else
          none
      else
      if ((sx_ x21.toNatClampNeg) &&& 63).toInt = 17 then
        iz_ (!(ib_ (x21 + 1) sN_)) <|
        iz_ (!(ib_ (x21 + 2) sN_)) <|
        bm_ (f_X0_gives F (some p13) (sx_ (x21 + 1).toNatClampNeg) (sx_ (x21 + 2).toNatClampNeg) (some p17) m20) fun v299 m297 =>
        iz_ (!(ib_ (x21 + 1) sN_)) <|
        iz_ (!(ib_ (x21 + 2) sN_)) <|
        bm_ (f_X8_gives F p15 (sx_ (x21 + 1).toNatClampNeg) (sx_ (x21 + 2).toNatClampNeg) m297) fun v304 m302 =>
        bm_ (f_X8_thrown F p15 m302) fun v307 m305 =>
        if v307 = v299 then
          if v299 = 0 then
            iz_ (!(ib_ 0 p17.2.1)) <|
            if (lg_cmp (gL_ m305 p17 (0 : Int32).toNatClampNeg) v304.toInt64) = 0 then
              (f_L_law_L23 F sx_ sN_ p13 p15 p17 n19) (x21 + 7) m305
            else
              none
          else
            (f_L_law_L23 F sx_ sN_ p13 p15 p17 n19) (x21 + 7) m305
        else
          none
      else
      if ((sx_ x21.toNatClampNeg) &&& 63).toInt = 18 then
        iz_ (!(ib_ (x21 + 1) sN_)) <|
        bm_ (f_X0_best F (some p13) (sx_ (x21 + 1).toNatClampNeg) (some p17) m20) fun v316 m314 =>
        iz_ (!(ib_ (x21 + 1) sN_)) <|
        bm_ (f_X8_best F p15 (sx_ (x21 + 1).toNatClampNeg) m314) fun v320 m318 =>
        bm_ (f_X8_thrown F p15 m318) fun v323 m321 =>
        if v323 = v316 then
          if v316 = 0 then
            iz_ (!(ib_ 0 p17.2.1)) <|
            if (lg_cmp (gL_ m321 p17 (0 : Int32).toNatClampNeg) v320.toInt64) = 0 then
              (f_L_law_L23 F sx_ sN_ p13 p15 p17 n19) (x21 + 7) m321
            else
              none
          else
            (f_L_law_L23 F sx_ sN_ p13 p15 p17 n19) (x21 + 7) m321
        else
          none
      else
      if ((sx_ x21.toNatClampNeg) &&& 63).toInt = 19 then
        iz_ (!(ib_ (x21 + 1) sN_)) <|
        bm_ (f_X0_bestFor F (some p13) (sx_ (x21 + 1).toNatClampNeg) (some p17) m20) fun v332 m330 =>
        iz_ (!(ib_ (x21 + 1) sN_)) <|
        bm_ (f_X8_bestFor F p15 (sx_ (x21 + 1).toNatClampNeg) m330) fun v336 m334 =>
        bm_ (f_X8_thrown F p15 m334) fun v339 m337 =>
        if v339 = v332 then
          if v332 = 0 then
            iz_ (!(ib_ 0 p17.2.1)) <|
            if (lg_cmp (gL_ m337 p17 (0 : Int32).toNatClampNeg) v336.toInt64) = 0 then
              (f_L_law_L23 F sx_ sN_ p13 p15 p17 n19) (x21 + 7) m337
            else
              none
          else
            (f_L_law_L23 F sx_ sN_ p13 p15 p17 n19) (x21 + 7) m337
        else
          none
      else
      if ((sx_ x21.toNatClampNeg) &&& 63).toInt = 20 then
        bm_ (f_X1_parted F p13 m20) fun v347 m345 =>
        bm_ (f_X8_parted F p15 m345) fun v350 m348 =>
        if v347 = v350 then
          (f_L_law_L23 F sx_ sN_ p13 p15 p17 n19) (x21 + 7) m348
        else
          none
      else
      if ((sx_ x21.toNatClampNeg) &&& 63).toInt = 21 then
        iz_ (!(ib_ (x21 + 1) sN_)) <|
        bm_ (f_X0_kin F (some p13) (sx_ (x21 + 1).toNatClampNeg) (some p17) m20) fun v356 m354 =>
        iz_ (!(ib_ (x21 + 1) sN_)) <|
        bm_ (f_X8_kin F p15 (sx_ (x21 + 1).toNatClampNeg) m354) fun v360 m358 =>
        bm_ (f_X8_thrown F p15 m358) fun v363 m361 =>
        if v363 = v356 then
          if v356 = 0 then
            iz_ (!(ib_ 0 p17.2.1)) <|
            if (lg_cmp (gL_ m361 p17 (0 : Int32).toNatClampNeg) v360.toInt64) = 0 then
              (f_L_law_L23 F sx_ sN_ p13 p15 p17 n19) (x21 + 7) m361
            else
              none
          else
            (f_L_law_L23 F sx_ sN_ p13 p15 p17 n19) (x21 + 7) m361
        else
          none
      else
      if ((sx_ x21.toNatClampNeg) &&& 63).toInt = 22 then
        iz_ (!(ib_ (x21 + 1) sN_)) <|
        bm_ (f_X0_fare F (some p13) (sx_ (x21 + 1).toNatClampNeg) (some p17) m20) fun v372 m370 =>
        iz_ (!(ib_ (x21 + 1) sN_)) <|
        bm_ (f_X8_fare F p15 (sx_ (x21 + 1).toNatClampNeg) m370) fun v376 m374 =>
        bm_ (f_X8_thrown F p15 m374) fun v379 m377 =>
        if v379 = v372 then
          if v372 = 0 then
            iz_ (!(ib_ 0 p17.2.1)) <|
            if (lg_cmp (gL_ m377 p17 (0 : Int32).toNatClampNeg) v376.toInt64) = 0 then
              (f_L_law_L23 F sx_ sN_ p13 p15 p17 n19) (x21 + 7) m377
            else
              none
          else
            (f_L_law_L23 F sx_ sN_ p13 p15 p17 n19) (x21 + 7) m377
        else
          none
      else
      if ((sx_ x21.toNatClampNeg) &&& 63).toInt = 23 then
        iz_ (!(ib_ (x21 + 1) sN_)) <|
        bm_ (f_X0_canPay F (some p13) (sx_ (x21 + 1).toNatClampNeg) (some p17) m20) fun v388 m386 =>
        iz_ (!(ib_ (x21 + 1) sN_)) <|
        bm_ (f_X8_canPay F p15 (sx_ (x21 + 1).toNatClampNeg) m386) fun v392 m390 =>
        bm_ (f_X8_thrown F p15 m390) fun v395 m393 =>
        if v395 = v388 then
          if v388 = 0 then
            iz_ (!(ib_ 0 p17.2.1)) <|
            jn_ (fun (y401 : Int64) (y402 : Int64) (m400 : pm_M) =>
              if (lg_cmp y401 y402) = 0 then
                (f_L_law_L23 F sx_ sN_ p13 p15 p17 n19) (x21 + 7) m400
              else
                none
            ) fun k399 =>
            if v392 = 0 then
              k399 (gL_ m393 p17 (0 : Int32).toNatClampNeg) 0 m393
            else
              k399 (gL_ m393 p17 (0 : Int32).toNatClampNeg) 1 m393
          else
            (f_L_law_L23 F sx_ sN_ p13 p15 p17 n19) (x21 + 7) m393
        else
          none
      else
      if ((sx_ x21.toNatClampNeg) &&& 63).toInt = 24 then
        iz_ (!(ib_ (x21 + 1) sN_)) <|
        bm_ (f_X0_enough F (some p13) (sx_ (x21 + 1).toNatClampNeg) (some p17) m20) fun v410 m408 =>
        iz_ (!(ib_ (x21 + 1) sN_)) <|
        bm_ (f_X8_enough F p15 (sx_ (x21 + 1).toNatClampNeg) m408) fun v414 m412 =>
        bm_ (f_X8_thrown F p15 m412) fun v417 m415 =>
        if v417 = v410 then
          if v410 = 0 then
            iz_ (!(ib_ 0 p17.2.1)) <|
            if (lg_cmp (gL_ m415 p17 (0 : Int32).toNatClampNeg) v414.toInt64) = 0 then
              (f_L_law_L23 F sx_ sN_ p13 p15 p17 n19) (x21 + 7) m415
            else
              none
          else
            (f_L_law_L23 F sx_ sN_ p13 p15 p17 n19) (x21 + 7) m415
        else
          none
      else
      if ((sx_ x21.toNatClampNeg) &&& 63).toInt = 25 then
        iz_ (!(ib_ (x21 + 1) sN_)) <|
        bm_ (f_X0_level F (some p13) (sx_ (x21 + 1).toNatClampNeg) (some p17) m20) fun v426 m424 =>
        iz_ (!(ib_ (x21 + 1) sN_)) <|
        bm_ (f_X8_level F p15 (sx_ (x21 + 1).toNatClampNeg) m424) fun v430 m428 =>
        bm_ (f_X8_thrown F p15 m428) fun v433 m431 =>
        if v433 = v426 then
          if v426 = 0 then
            iz_ (!(ib_ 0 p17.2.1)) <|
            if (lg_cmp (gL_ m431 p17 (0 : Int32).toNatClampNeg) v430.toInt64) = 0 then
              (f_L_law_L23 F sx_ sN_ p13 p15 p17 n19) (x21 + 7) m431
            else
              none
          else
            (f_L_law_L23 F sx_ sN_ p13 p15 p17 n19) (x21 + 7) m431
        else
          none
      else
      if ((sx_ x21.toNatClampNeg) &&& 63).toInt = 26 then
        bm_ (f_X1_hunger F p13 m20) fun v441 m439 =>
        bm_ (f_X8_hunger F p15 m439) fun v444 m442 =>
        if v441 = v444 then
          (f_L_law_L23 F sx_ sN_ p13 p15 p17 n19) (x21 + 7) m442
        else
          none
      else
      if ((sx_ x21.toNatClampNeg) &&& 63).toInt = 27 then
        iz_ (!(ib_ (x21 + 1) sN_)) <|
        iz_ (!(ib_ (x21 + 2) sN_)) <|
        bm_ (f_X0_terms F (some p13) (sx_ (x21 + 1).toNatClampNeg) (sx_ (x21 + 2).toNatClampNeg) (some p17) m20) fun v451 m449 =>
        iz_ (!(ib_ (x21 + 1) sN_)) <|
        iz_ (!(ib_ (x21 + 2) sN_)) <|
        bm_ (f_X8_terms F p15 (sx_ (x21 + 1).toNatClampNeg) (sx_ (x21 + 2).toNatClampNeg) m449) fun v456 m454 =>
        bm_ (f_X8_thrown F p15 m454) fun v459 m457 =>
        if v459 = v451 then
          if v451 = 0 then
            iz_ (!(ib_ 0 p17.2.1)) <|
            if (lg_cmp (gL_ m457 p17 (0 : Int32).toNatClampNeg) v456.toInt64) = 0 then
              (f_L_law_L23 F sx_ sN_ p13 p15 p17 n19) (x21 + 7) m457
            else
              none
          else
            (f_L_law_L23 F sx_ sN_ p13 p15 p17 n19) (x21 + 7) m457
        else
          none
      else
      if ((sx_ x21.toNatClampNeg) &&& 63).toInt = 28 then
        iz_ (!(ib_ (x21 + 1) sN_)) <|
        iz_ (!(ib_ (x21 + 2) sN_)) <|
        bm_ (f_X0_ask F (some p13) (sx_ (x21 + 1).toNatClampNeg) (sx_ (x21 + 2).toNatClampNeg) (some p17) m20) fun v469 m467 =>
        iz_ (!(ib_ (x21 + 1) sN_)) <|
        iz_ (!(ib_ (x21 + 2) sN_)) <|
        bm_ (f_X8_ask F p15 (sx_ (x21 + 1).toNatClampNeg) (sx_ (x21 + 2).toNatClampNeg) m467) fun v474 m472 =>
        bm_ (f_X8_thrown F p15 m472) fun v477 m475 =>
        if v477 = v469 then
          if v469 = 0 then
            iz_ (!(ib_ 0 p17.2.1)) <|
            if (lg_cmp (gL_ m475 p17 (0 : Int32).toNatClampNeg) v474.toInt64) = 0 then
              (f_L_law_L23 F sx_ sN_ p13 p15 p17 n19) (x21 + 7) m475
            else
              none
          else
            (f_L_law_L23 F sx_ sN_ p13 p15 p17 n19) (x21 + 7) m475
        else
          none
      else
      if ((sx_ x21.toNatClampNeg) &&& 63).toInt = 29 then
        iz_ (!(ib_ (x21 + 1) sN_)) <|
        iz_ (!(ib_ (x21 + 2) sN_)) <|
        iz_ (!(ib_ (x21 + 3) sN_)) <|
        bm_ (f_X0_court F (some p13) (sx_ (x21 + 1).toNatClampNeg) (sx_ (x21 + 2).toNatClampNeg) (sx_ (x21 + 3).toNatClampNeg) (some p17) m20) fun v488 m486 =>
        iz_ (!(ib_ (x21 + 1) sN_)) <|
        iz_ (!(ib_ (x21 + 2) sN_)) <|
        iz_ (!(ib_ (x21 + 3) sN_)) <|
        bm_ (f_X8_court F p15 (sx_ (x21 + 1).toNatClampNeg) (sx_ (x21 + 2).toNatClampNeg) (sx_ (x21 + 3).toNatClampNeg) m486) fun v494 m492 =>
        bm_ (f_X8_thrown F p15 m492) fun v497 m495 =>
        if v497 = v488 then
          if v488 = 0 then
            iz_ (!(ib_ 0 p17.2.1)) <|
            if (lg_cmp (gL_ m495 p17 (0 : Int32).toNatClampNeg) v494) = 0 then
              (f_L_law_L23 F sx_ sN_ p13 p15 p17 n19) (x21 + 7) m495
            else
              none
          else
            (f_L_law_L23 F sx_ sN_ p13 p15 p17 n19) (x21 + 7) m495
        else
          none
      else
      if ((sx_ x21.toNatClampNeg) &&& 63).toInt = 30 then
        iz_ (!(ib_ (x21 + 1) sN_)) <|
        iz_ (!(ib_ (x21 + 2) sN_)) <|
        bm_ (f_X0_witnesses F (some p13) (sx_ (x21 + 1).toNatClampNeg) (sx_ (x21 + 2).toNatClampNeg) (some p17) m20) fun v507 m505 =>
        iz_ (!(ib_ (x21 + 1) sN_)) <|
        iz_ (!(ib_ (x21 + 2) sN_)) <|
        bm_ (f_X8_witnesses F p15 (sx_ (x21 + 1).toNatClampNeg) (sx_ (x21 + 2).toNatClampNeg) m505) fun v512 m510 =>
        bm_ (f_X8_thrown F p15 m510) fun v515 m513 =>
        if v515 = v507 then
          if v507 = 0 then
            iz_ (!(ib_ 0 p17.2.1)) <|
            if (lg_cmp (gL_ m513 p17 (0 : Int32).toNatClampNeg) v512.toInt64) = 0 then
              (f_L_law_L23 F sx_ sN_ p13 p15 p17 n19) (x21 + 7) m513
            else
              none
          else
            (f_L_law_L23 F sx_ sN_ p13 p15 p17 n19) (x21 + 7) m513
        else
          none
      else
      if ((sx_ x21.toNatClampNeg) &&& 63).toInt = 31 then
        iz_ (!(ib_ (x21 + 1) sN_)) <|
        iz_ (!(ib_ (x21 + 2) sN_)) <|
        iz_ (!(ib_ (x21 + 3) sN_)) <|
        bm_ (f_X0_loan F (some p13) (sx_ (x21 + 1).toNatClampNeg) (sx_ (x21 + 2).toNatClampNeg) (sx_ (x21 + 3).toNatClampNeg) (some p17) m20) fun v526 m524 =>
        iz_ (!(ib_ (x21 + 1) sN_)) <|
        iz_ (!(ib_ (x21 + 2) sN_)) <|
        iz_ (!(ib_ (x21 + 3) sN_)) <|
        bm_ (f_X8_loan F p15 (sx_ (x21 + 1).toNatClampNeg) (sx_ (x21 + 2).toNatClampNeg) (sx_ (x21 + 3).toNatClampNeg) m524) fun v532 m530 =>
        bm_ (f_X8_thrown F p15 m530) fun v535 m533 =>
        if v535 = v526 then
          if v526 = 0 then
            iz_ (!(ib_ 0 p17.2.1)) <|
            if (lg_cmp (gL_ m533 p17 (0 : Int32).toNatClampNeg) v532.toInt64) = 0 then
              (f_L_law_L23 F sx_ sN_ p13 p15 p17 n19) (x21 + 7) m533
            else
              none
          else
            (f_L_law_L23 F sx_ sN_ p13 p15 p17 n19) (x21 + 7) m533
        else
          none
      else
      if ((sx_ x21.toNatClampNeg) &&& 63).toInt = 32 then
        iz_ (!(ib_ (x21 + 1) sN_)) <|
        iz_ (!(ib_ (x21 + 2) sN_)) <|
        bm_ (f_X0_land F (some p13) (sx_ (x21 + 1).toNatClampNeg) (sx_ (x21 + 2).toNatClampNeg) (some p17) m20) fun v545 m543 =>
        iz_ (!(ib_ (x21 + 1) sN_)) <|
        iz_ (!(ib_ (x21 + 2) sN_)) <|
        bm_ (f_X8_land F p15 (sx_ (x21 + 1).toNatClampNeg) (sx_ (x21 + 2).toNatClampNeg) m543) fun v550 m548 =>
        bm_ (f_X8_thrown F p15 m548) fun v553 m551 =>
        if v553 = v545 then
          if v545 = 0 then
            iz_ (!(ib_ 0 p17.2.1)) <|
            if (lg_cmp (gL_ m551 p17 (0 : Int32).toNatClampNeg) v550.toInt64) = 0 then
              (f_L_law_L23 F sx_ sN_ p13 p15 p17 n19) (x21 + 7) m551
            else
              none
          else
            (f_L_law_L23 F sx_ sN_ p13 p15 p17 n19) (x21 + 7) m551
        else
          none
      else
      if ((sx_ x21.toNatClampNeg) &&& 63).toInt = 33 then
        iz_ (!(ib_ (x21 + 1) sN_)) <|
        iz_ (!(ib_ (x21 + 2) sN_)) <|
        iz_ (!(ib_ (x21 + 3) sN_)) <|
        iz_ (!(ib_ (x21 + 4) sN_)) <|
        bm_ (f_X0_bids F (some p13) (sx_ (x21 + 1).toNatClampNeg) (sx_ (x21 + 2).toNatClampNeg) (sx_ (x21 + 3).toNatClampNeg) (sx_ (x21 + 4).toNatClampNeg) (some p17) m20) fun v565 m563 =>
        iz_ (!(ib_ (x21 + 1) sN_)) <|
        iz_ (!(ib_ (x21 + 2) sN_)) <|
        iz_ (!(ib_ (x21 + 3) sN_)) <|
        iz_ (!(ib_ (x21 + 4) sN_)) <|
        bm_ (f_X8_bids F p15 (sx_ (x21 + 1).toNatClampNeg) (sx_ (x21 + 2).toNatClampNeg) (sx_ (x21 + 3).toNatClampNeg) (sx_ (x21 + 4).toNatClampNeg) m563) fun v572 m570 =>
        bm_ (f_X8_thrown F p15 m570) fun v575 m573 =>
        if v575 = v565 then
          if v565 = 0 then
            iz_ (!(ib_ 0 p17.2.1)) <|
            if (lg_cmp (gL_ m573 p17 (0 : Int32).toNatClampNeg) v572.toInt64) = 0 then
              (f_L_law_L23 F sx_ sN_ p13 p15 p17 n19) (x21 + 7) m573
            else
              none
          else
            (f_L_law_L23 F sx_ sN_ p13 p15 p17 n19) (x21 + 7) m573
        else
          none
      else
      if ((sx_ x21.toNatClampNeg) &&& 63).toInt = 34 then
        iz_ (!(ib_ (x21 + 1) sN_)) <|
        iz_ (!(ib_ (x21 + 2) sN_)) <|
        iz_ (!(ib_ (x21 + 3) sN_)) <|
        bm_ (f_X0_has F (some p13) (sx_ (x21 + 1).toNatClampNeg) (sx_ (x21 + 2).toNatClampNeg) (sx_ (x21 + 3).toNatClampNeg) (some p17) m20) fun v586 m584 =>
        iz_ (!(ib_ (x21 + 1) sN_)) <|
        iz_ (!(ib_ (x21 + 2) sN_)) <|
        iz_ (!(ib_ (x21 + 3) sN_)) <|
        bm_ (f_X8_has F p15 (sx_ (x21 + 1).toNatClampNeg) (sx_ (x21 + 2).toNatClampNeg) (sx_ (x21 + 3).toNatClampNeg) m584) fun v592 m590 =>
        bm_ (f_X8_thrown F p15 m590) fun v595 m593 =>
        if v595 = v586 then
          if v586 = 0 then
            iz_ (!(ib_ 0 p17.2.1)) <|
            if (lg_cmp (gL_ m593 p17 (0 : Int32).toNatClampNeg) v592.toInt64) = 0 then
              (f_L_law_L23 F sx_ sN_ p13 p15 p17 n19) (x21 + 7) m593
            else
              none
          else
            (f_L_law_L23 F sx_ sN_ p13 p15 p17 n19) (x21 + 7) m593
        else
          none
      else
      if ((sx_ x21.toNatClampNeg) &&& 63).toInt = 35 then
        iz_ (!(ib_ (x21 + 1) sN_)) <|
        iz_ (!(ib_ (x21 + 2) sN_)) <|
        iz_ (!(ib_ (x21 + 3) sN_)) <|
        iz_ (!(ib_ (x21 + 4) sN_)) <|
        iz_ (!(ib_ (x21 + 5) sN_)) <|
        bm_ (f_X0_voyage F (some p13) (sx_ (x21 + 1).toNatClampNeg) (sx_ (x21 + 2).toNatClampNeg) (sx_ (x21 + 3).toNatClampNeg) (sx_ (x21 + 4).toNatClampNeg) (sx_ (x21 + 5).toNatClampNeg) (some p17) m20) fun v608 m606 =>
        iz_ (!(ib_ (x21 + 1) sN_)) <|
        iz_ (!(ib_ (x21 + 2) sN_)) <|
        iz_ (!(ib_ (x21 + 3) sN_)) <|
        iz_ (!(ib_ (x21 + 4) sN_)) <|
        iz_ (!(ib_ (x21 + 5) sN_)) <|
        bm_ (f_X8_voyage F p15 (sx_ (x21 + 1).toNatClampNeg) (sx_ (x21 + 2).toNatClampNeg) (sx_ (x21 + 3).toNatClampNeg) (sx_ (x21 + 4).toNatClampNeg) (sx_ (x21 + 5).toNatClampNeg) m606) fun v616 m614 =>
        bm_ (f_X8_thrown F p15 m614) fun v619 m617 =>
        if v619 = v608 then
          if v608 = 0 then
            iz_ (!(ib_ 0 p17.2.1)) <|
            if (lg_cmp (gL_ m617 p17 (0 : Int32).toNatClampNeg) v616.toInt64) = 0 then
              (f_L_law_L23 F sx_ sN_ p13 p15 p17 n19) (x21 + 7) m617
            else
              none
          else
            (f_L_law_L23 F sx_ sN_ p13 p15 p17 n19) (x21 + 7) m617
        else
          none
      else
      if ((sx_ x21.toNatClampNeg) &&& 63).toInt = 36 then
        iz_ (!(ib_ (x21 + 1) sN_)) <|
        iz_ (!(ib_ (x21 + 2) sN_)) <|
        iz_ (!(ib_ (x21 + 3) sN_)) <|
        iz_ (!(ib_ (x21 + 4) sN_)) <|
        iz_ (!(ib_ (x21 + 5) sN_)) <|
        iz_ (!(ib_ (x21 + 6) sN_)) <|
        bm_ (f_X0_span F (some p13) (sx_ (x21 + 1).toNatClampNeg) (sx_ (x21 + 2).toNatClampNeg) (sx_ (x21 + 3).toNatClampNeg) (sx_ (x21 + 4).toNatClampNeg) (sx_ (x21 + 5).toNatClampNeg) (sx_ (x21 + 6).toNatClampNeg) (some p17) m20) fun v633 m631 =>
        iz_ (!(ib_ (x21 + 1) sN_)) <|
        iz_ (!(ib_ (x21 + 2) sN_)) <|
        iz_ (!(ib_ (x21 + 3) sN_)) <|
        iz_ (!(ib_ (x21 + 4) sN_)) <|
        iz_ (!(ib_ (x21 + 5) sN_)) <|
        iz_ (!(ib_ (x21 + 6) sN_)) <|
        bm_ (f_X8_span F p15 (sx_ (x21 + 1).toNatClampNeg) (sx_ (x21 + 2).toNatClampNeg) (sx_ (x21 + 3).toNatClampNeg) (sx_ (x21 + 4).toNatClampNeg) (sx_ (x21 + 5).toNatClampNeg) (sx_ (x21 + 6).toNatClampNeg) m631) fun v642 m640 =>
        bm_ (f_X8_thrown F p15 m640) fun v645 m643 =>
        if v645 = v633 then
          if v633 = 0 then
            iz_ (!(ib_ 0 p17.2.1)) <|
            if (lg_cmp (gL_ m643 p17 (0 : Int32).toNatClampNeg) v642.toInt64) = 0 then
              (f_L_law_L23 F sx_ sN_ p13 p15 p17 n19) (x21 + 7) m643
            else
              none
          else
            (f_L_law_L23 F sx_ sN_ p13 p15 p17 n19) (x21 + 7) m643
        else
          none
      else
      if ((sx_ x21.toNatClampNeg) &&& 63).toInt = 37 then
        bm_ (f_X1_image F p13 m20) fun v653 m651 =>
        bm_ (f_X8_image F p15 m651) fun v656 m654 =>
        if v653 = v656 then
          (f_L_law_L23 F sx_ sN_ p13 p15 p17 n19) (x21 + 7) m654
        else
          none
      else
      if ((sx_ x21.toNatClampNeg) &&& 63).toInt = 38 then
        bm_ (f_X1_restore F p13 m20) fun v661 m659 =>
        bm_ (f_X8_restore F p15 m659) fun v664 m662 =>
        if v661 = v664 then
          (f_L_law_L23 F sx_ sN_ p13 p15 p17 n19) (x21 + 7) m662
        else
          none
      else
      if ((sx_ x21.toNatClampNeg) &&& 63).toInt = 39 then
        iz_ (!(ib_ (x21 + 1) sN_)) <|
        bm_ (f_X1_status F p13 (sx_ (x21 + 1).toNatClampNeg) m20) fun v670 m668 =>
        iz_ (!(ib_ (x21 + 1) sN_)) <|
        bm_ (f_X8_status F p15 (sx_ (x21 + 1).toNatClampNeg) m668) fun v674 m672 =>
        if v670 = v674 then
          (f_L_law_L23 F sx_ sN_ p13 p15 p17 n19) (x21 + 7) m672
        else
          none
      else
      if ((sx_ x21.toNatClampNeg) &&& 63).toInt = 40 then
        iz_ (!(ib_ (x21 + 1) sN_)) <|
        bm_ (f_X1_count F p13 (sx_ (x21 + 1).toNatClampNeg) m20) fun v680 m678 =>
        iz_ (!(ib_ (x21 + 1) sN_)) <|
        bm_ (f_X8_count F p15 (sx_ (x21 + 1).toNatClampNeg) m678) fun v684 m682 =>
        if v680 = v684 then
          (f_L_law_L23 F sx_ sN_ p13 p15 p17 n19) (x21 + 7) m682
        else
          none
      else
        (f_L_law_L23 F sx_ sN_ p13 p15 p17 n19) (x21 + 7) m20
set_option maxHeartbeats 4000000 in
theorem w_L_law_L23 {nm9 : String} {tb9 : List (Nat × Nat × Nat × Nat)} {G : xg_T} {l : Launch} (hl : l.stackTraces = false) {F : Nat}    (p13 : pm_A) (p15 : pm_A) (p17 : pm_A) {m0 m' : pm_M} {r : Unit} (hbF : gN_ m' ≤ 601024 ∧ gS_ m' ≤ 7293034) (hf14 : p13.1 = 1) (hf16 : p15.1 = 8) (hf18 : p17.1 = 103)  : ∀ (n : Nat) (x21 : Int32) (m20 : pm_M), f_L_law_L23 F (xg_x G) (xg_L G) p13 p15 p17 n x21 m20 = some (r, m') → AW_ cL_law RX0 (some .boolean, nm9, 1000, 8, m0, eE_, (.inl none), G, l, tb9, false) m20 23 [(0, vR_ (some ((201, 0, 0)))), (1, vR_ (some p13)), (2, vR_ (some p15)), (3, vR_ (some p17)), (4, vI_ x21)] [] := by
  intro n
  induction n with
  | zero => intro x21 m20 h; cases h
  | succ n19 ih =>
    intro x21 m20 h
    rw [f_L_law_L23] at h
    refine a_iload 4 dL_law_23 rfl ?_
    refine a_aload_n 0 dL_law_25 rfl rfl ?_
    refine a_slenS dL_law_26 ?_
    refine a_bipush (v := 7) dL_law_27 (by decide) ?_
    refine a_isub dL_law_29 ?_
    refine a_icmp_gt (tgt := 2582) dL_law_30 (by decide) (fun c22 => ?_) (fun c22 => ?_)
    · replace h := ifp_ c22 h
      refine a_iconst (v := 1) dL_law_2582 (by decide) ?_
      cases h
      exact a_lawret rfl rfl ⟨rfl, rfl⟩ hbF dL_law_2583
    · replace h := ifn_ c22 h
      refine a_aload_n 0 dL_law_33 rfl rfl ?_
      refine a_iload 4 dL_law_34 rfl ?_
      obtain ⟨c23, h⟩ := iz_some h
      refine a_sld (bn_ c23) dL_law_36 ?_
      refine a_bipush (v := 63) dL_law_37 (by decide) ?_
      refine a_iand dL_law_39 ?_
      by_cases c24 : (((xg_x G) x21.toNatClampNeg) &&& 63).toInt = 0
      · replace h := ifp_ c24 h
        refine a_tabIn (tgt := 220) dL_law_40 (by rw [c24]; decide) (by rw [c24]; decide) (by rw [c24]; rfl) (by decide) ?_
        refine a_aload_n 1 dL_law_220 rfl rfl ?_
        refine a_aload_n 0 dL_law_221 rfl rfl ?_
        refine a_iload 4 dL_law_222 rfl ?_
        refine a_iconst (v := 1) dL_law_224 (by decide) ?_
        refine a_iadd dL_law_225 ?_
        obtain ⟨c25, h⟩ := iz_some h
        refine a_sld (bn_ c25) dL_law_226 ?_
        refine a_aload_n 0 dL_law_227 rfl rfl ?_
        refine a_iload 4 dL_law_228 rfl ?_
        refine a_iconst (v := 2) dL_law_230 (by decide) ?_
        refine a_iadd dL_law_231 ?_
        obtain ⟨c26, h⟩ := iz_some h
        refine a_sld (bn_ c26) dL_law_232 ?_
        refine a_aload_n 0 dL_law_233 rfl rfl ?_
        refine a_iload 4 dL_law_234 rfl ?_
        refine a_iconst (v := 3) dL_law_236 (by decide) ?_
        refine a_iadd dL_law_237 ?_
        obtain ⟨c27, h⟩ := iz_some h
        refine a_sld (bn_ c27) dL_law_238 ?_
        refine a_aload_n 0 dL_law_239 rfl rfl ?_
        refine a_iload 4 dL_law_240 rfl ?_
        refine a_iconst (v := 4) dL_law_242 (by decide) ?_
        refine a_iadd dL_law_243 ?_
        obtain ⟨c28, h⟩ := iz_some h
        refine a_sld (bn_ c28) dL_law_244 ?_
        refine a_aload_n 0 dL_law_245 rfl rfl ?_
        refine a_iload 4 dL_law_246 rfl ?_
        refine a_iconst (v := 5) dL_law_248 (by decide) ?_
        refine a_iadd dL_law_249 ?_
        obtain ⟨c29, h⟩ := iz_some h
        refine a_sld (bn_ c29) dL_law_250 ?_
        obtain ⟨v32, m30, e31, h⟩ := bm_some h
        have he31 := e_X1_feed (G := G) hl hf14 e31
        refine c_I he31.1 (rn_V (n := 5) (As := [vI_ ((xg_x G) (x21 + 1).toNatClampNeg), vI_ ((xg_x G) (x21 + 2).toNatClampNeg), vI_ ((xg_x G) (x21 + 3).toNatClampNeg), vI_ ((xg_x G) (x21 + 4).toNatClampNeg), vI_ ((xg_x G) (x21 + 5).toNatClampNeg)]) kc_1 hf14 he31 (lw_V q446 q447 q448 q90 q449) (by decide +kernel) rfl (by show 2 + 1 ≤ 1000; omega) (Nat.le_of_ble_eq_true rfl) (Nat.le_of_ble_eq_true rfl) dL_law_251) (fun z => (os_av (As := [vI_ ((xg_x G) (x21 + 1).toNatClampNeg), vI_ ((xg_x G) (x21 + 2).toNatClampNeg), vI_ ((xg_x G) (x21 + 3).toNatClampNeg), vI_ ((xg_x G) (x21 + 4).toNatClampNeg), vI_ ((xg_x G) (x21 + 5).toNatClampNeg)]) z).2.1) ?_
        refine a_aload_n 2 dL_law_254 rfl rfl ?_
        refine a_aload_n 0 dL_law_255 rfl rfl ?_
        refine a_iload 4 dL_law_256 rfl ?_
        refine a_iconst (v := 1) dL_law_258 (by decide) ?_
        refine a_iadd dL_law_259 ?_
        obtain ⟨c33, h⟩ := iz_some h
        refine a_sld (bn_ c33) dL_law_260 ?_
        refine a_aload_n 0 dL_law_261 rfl rfl ?_
        refine a_iload 4 dL_law_262 rfl ?_
        refine a_iconst (v := 2) dL_law_264 (by decide) ?_
        refine a_iadd dL_law_265 ?_
        obtain ⟨c34, h⟩ := iz_some h
        refine a_sld (bn_ c34) dL_law_266 ?_
        refine a_aload_n 0 dL_law_267 rfl rfl ?_
        refine a_iload 4 dL_law_268 rfl ?_
        refine a_iconst (v := 3) dL_law_270 (by decide) ?_
        refine a_iadd dL_law_271 ?_
        obtain ⟨c35, h⟩ := iz_some h
        refine a_sld (bn_ c35) dL_law_272 ?_
        refine a_aload_n 0 dL_law_273 rfl rfl ?_
        refine a_iload 4 dL_law_274 rfl ?_
        refine a_iconst (v := 4) dL_law_276 (by decide) ?_
        refine a_iadd dL_law_277 ?_
        obtain ⟨c36, h⟩ := iz_some h
        refine a_sld (bn_ c36) dL_law_278 ?_
        refine a_aload_n 0 dL_law_279 rfl rfl ?_
        refine a_iload 4 dL_law_280 rfl ?_
        refine a_iconst (v := 5) dL_law_282 (by decide) ?_
        refine a_iadd dL_law_283 ?_
        obtain ⟨c37, h⟩ := iz_some h
        refine a_sld (bn_ c37) dL_law_284 ?_
        obtain ⟨v40, m38, e39, h⟩ := bm_some h
        have he39 := e_X8_feed (G := G) hl hf16 e39
        refine c_I he39.1 (rn_V (n := 5) (As := [vI_ ((xg_x G) (x21 + 1).toNatClampNeg), vI_ ((xg_x G) (x21 + 2).toNatClampNeg), vI_ ((xg_x G) (x21 + 3).toNatClampNeg), vI_ ((xg_x G) (x21 + 4).toNatClampNeg), vI_ ((xg_x G) (x21 + 5).toNatClampNeg)]) kc_8 hf16 he39 (lw_V q1732 q1733 q1734 q97 q1735) (by decide +kernel) rfl (by show 2 + 1 ≤ 1000; omega) (Nat.le_of_ble_eq_true rfl) (Nat.le_of_ble_eq_true rfl) dL_law_285) (fun z => (os_av (As := [vI_ ((xg_x G) (x21 + 1).toNatClampNeg), vI_ ((xg_x G) (x21 + 2).toNatClampNeg), vI_ ((xg_x G) (x21 + 3).toNatClampNeg), vI_ ((xg_x G) (x21 + 4).toNatClampNeg), vI_ ((xg_x G) (x21 + 5).toNatClampNeg)]) z).2.1) ?_
        refine a_icmp_eq (tgt := 2576) dL_law_288 (by decide) (fun c41 => ?_) (fun c41 => ?_)
        · replace h := ifp_ c41 h
          refine a_iinc (v := x21 + 7) (ls' := [(4, vI_ (x21 + 7)), (0, vR_ (some ((201, 0, 0)))), (1, vR_ (some p13)), (2, vR_ (some p15)), (3, vR_ (some p17))]) 4 dL_law_2576 rfl rfl (Nat.le_of_ble_eq_true rfl) rfl ?_
          refine a_goto (tgt := 23) dL_law_2579 (by decide) ?_
          refine aw_pick [1, 2, 3, 4, 0] rfl ?_
          exact ih _ _ h
        · replace h := ifn_ c41 h
          refine a_iconst (v := 0) dL_law_291 (by decide) ?_
          cases h
      replace h := ifn_ c24 h
      by_cases c42 : (((xg_x G) x21.toNatClampNeg) &&& 63).toInt = 1
      · replace h := ifp_ c42 h
        refine a_tabIn (tgt := 293) dL_law_40 (by rw [c42]; decide) (by rw [c42]; decide) (by rw [c42]; rfl) (by decide) ?_
        refine a_aload_n 1 dL_law_293 rfl rfl ?_
        refine a_aload_n 0 dL_law_294 rfl rfl ?_
        refine a_iload 4 dL_law_295 rfl ?_
        refine a_iconst (v := 1) dL_law_297 (by decide) ?_
        refine a_iadd dL_law_298 ?_
        obtain ⟨c43, h⟩ := iz_some h
        refine a_sld (bn_ c43) dL_law_299 ?_
        refine a_aload_n 3 dL_law_300 rfl rfl ?_
        obtain ⟨v46, m44, e45, h⟩ := bm_some h
        have he45 := e_X0_register (G := G) hl e45
        refine c_I he45.1 (rn_SH (n := 3) (As := [vR_ (some p13), vI_ ((xg_x G) (x21 + 1).toNatClampNeg), vR_ (some p17)]) he45 (lw_SW q572 q573 q89 q574) (by decide +kernel) rfl (by show 11 + 1 ≤ 1000; omega) (Nat.le_of_ble_eq_true rfl) (Nat.le_of_ble_eq_true rfl) dL_law_301) (fun z => (os_aS (As := [vR_ (some p13), vI_ ((xg_x G) (x21 + 1).toNatClampNeg), vR_ (some p17)]) z).2) ?_
        refine a_istore (ls' := [(5, vI_ v46), (0, vR_ (some ((201, 0, 0)))), (1, vR_ (some p13)), (2, vR_ (some p15)), (3, vR_ (some p17)), (4, vI_ x21)]) dL_law_304 (Nat.le_of_ble_eq_true rfl) rfl ?_
        refine a_aload_n 3 dL_law_306 rfl rfl ?_
        refine a_aload_n 1 dL_law_307 rfl rfl ?_
        refine a_iload 5 dL_law_308 rfl ?_
        refine a_iconst (v := 1) dL_law_310 (by decide) ?_
        refine a_iadd dL_law_311 ?_
        obtain ⟨c47, h⟩ := iz_some h
        refine a_sld (bn_ c47) dL_law_312 ?_
        obtain ⟨v50, m48, e49, h⟩ := bm_some h
        have he49 := e_X8_register (G := G) hl hf16 e49
        refine c_I he49.1 (rn_V (n := 1) (As := [vI_ ((xg_x G) (x21 + 1).toNatClampNeg)]) kc_8 hf16 he49 (lw_V q1740 q1741 q1742 q97 q1743) (by decide +kernel) rfl (by show 8 + 1 ≤ 1000; omega) (Nat.le_of_ble_eq_true rfl) (Nat.le_of_ble_eq_true rfl) dL_law_313) (fun z => (os_av (As := [vI_ ((xg_x G) (x21 + 1).toNatClampNeg)]) z).2.1) ?_
        refine a_istore (ls' := [(6, vI_ v50), (5, vI_ v46), (0, vR_ (some ((201, 0, 0)))), (1, vR_ (some p13)), (2, vR_ (some p15)), (3, vR_ (some p17)), (4, vI_ x21)]) dL_law_316 (Nat.le_of_ble_eq_true rfl) rfl ?_
        refine a_aload_n 4 dL_law_318 rfl rfl ?_
        obtain ⟨v53, m51, e52, h⟩ := bm_some h
        have he52 := e_X8_thrown (G := G) hl hf16 e52
        refine c_I he52.1 (rn_V (n := 0) (As := []) kc_8 hf16 he52 (lw_V q1532 q1533 q1534 q97 q1535) (by decide +kernel) rfl (by show 2 + 1 ≤ 1000; omega) (Nat.le_of_ble_eq_true rfl) (Nat.le_of_ble_eq_true rfl) dL_law_319) (fun z => (os_av (As := []) z).2.1) ?_
        refine a_iload 1 dL_law_322 rfl ?_
        refine a_icmp_eq (tgt := 329) dL_law_324 (by decide) (fun c54 => ?_) (fun c54 => ?_)
        · replace h := ifp_ c54 h
          refine a_iload 1 dL_law_329 rfl ?_
          refine a_if_ne (tgt := 346) dL_law_331 (by decide) (fun c55 => ?_) (fun c55 => ?_)
          · replace h := ifn_ c55 h
            refine a_goto (tgt := 2576) dL_law_346 (by decide) ?_
            refine a_iinc (v := x21 + 7) (ls' := [(4, vI_ (x21 + 7)), (6, vI_ v50), (5, vI_ v46), (0, vR_ (some ((201, 0, 0)))), (1, vR_ (some p13)), (2, vR_ (some p15)), (3, vR_ (some p17))]) 6 dL_law_2576 rfl rfl (Nat.le_of_ble_eq_true rfl) rfl ?_
            refine a_goto (tgt := 23) dL_law_2579 (by decide) ?_
            refine aw_pick [3, 4, 5, 6, 0] rfl ?_
            exact ih _ _ h
          · replace h := ifp_ c55 h
            refine a_aload_n 5 dL_law_334 rfl rfl ?_
            refine a_iconst (v := 0) dL_law_335 (by decide) ?_
            obtain ⟨c56, h⟩ := iz_some h
            refine a_lald hf18 (bn_ c56) dL_law_336 ?_
            refine a_iload 0 dL_law_337 rfl ?_
            refine a_i2l dL_law_339 ?_
            refine a_lcmp dL_law_340 ?_
            refine a_if_eq (tgt := 346) dL_law_341 (by decide) (fun c57 => ?_) (fun c57 => ?_)
            · replace h := ifp_ c57 h
              refine a_goto (tgt := 2576) dL_law_346 (by decide) ?_
              refine a_iinc (v := x21 + 7) (ls' := [(4, vI_ (x21 + 7)), (6, vI_ v50), (5, vI_ v46), (0, vR_ (some ((201, 0, 0)))), (1, vR_ (some p13)), (2, vR_ (some p15)), (3, vR_ (some p17))]) 6 dL_law_2576 rfl rfl (Nat.le_of_ble_eq_true rfl) rfl ?_
              refine a_goto (tgt := 23) dL_law_2579 (by decide) ?_
              refine aw_pick [3, 4, 5, 6, 0] rfl ?_
              exact ih _ _ h
            · replace h := ifn_ c57 h
              refine a_iconst (v := 0) dL_law_344 (by decide) ?_
              cases h
        · replace h := ifn_ c54 h
          refine a_iconst (v := 0) dL_law_327 (by decide) ?_
          cases h
      replace h := ifn_ c42 h
      by_cases c58 : (((xg_x G) x21.toNatClampNeg) &&& 63).toInt = 2
      · replace h := ifp_ c58 h
        refine a_tabIn (tgt := 349) dL_law_40 (by rw [c58]; decide) (by rw [c58]; decide) (by rw [c58]; rfl) (by decide) ?_
        refine a_aload_n 1 dL_law_349 rfl rfl ?_
        refine a_aload_n 0 dL_law_350 rfl rfl ?_
        refine a_iload 4 dL_law_351 rfl ?_
        refine a_iconst (v := 1) dL_law_353 (by decide) ?_
        refine a_iadd dL_law_354 ?_
        obtain ⟨c59, h⟩ := iz_some h
        refine a_sld (bn_ c59) dL_law_355 ?_
        refine a_aload_n 0 dL_law_356 rfl rfl ?_
        refine a_iload 4 dL_law_357 rfl ?_
        refine a_iconst (v := 2) dL_law_359 (by decide) ?_
        refine a_iadd dL_law_360 ?_
        obtain ⟨c60, h⟩ := iz_some h
        refine a_sld (bn_ c60) dL_law_361 ?_
        refine a_aload_n 3 dL_law_362 rfl rfl ?_
        obtain ⟨v63, m61, e62, h⟩ := bm_some h
        have he62 := e_X0_law (G := G) hl e62
        refine c_I he62.1 (rn_SH (n := 4) (As := [vR_ (some p13), vI_ ((xg_x G) (x21 + 1).toNatClampNeg), vI_ ((xg_x G) (x21 + 2).toNatClampNeg), vR_ (some p17)]) he62 (lw_SW q840 q841 q89 q842) (by decide +kernel) rfl (by show 41 + 1 ≤ 1000; omega) (Nat.le_of_ble_eq_true rfl) (Nat.le_of_ble_eq_true rfl) dL_law_363) (fun z => (os_aS (As := [vR_ (some p13), vI_ ((xg_x G) (x21 + 1).toNatClampNeg), vI_ ((xg_x G) (x21 + 2).toNatClampNeg), vR_ (some p17)]) z).2) ?_
        refine a_istore (ls' := [(5, vI_ v63), (0, vR_ (some ((201, 0, 0)))), (1, vR_ (some p13)), (2, vR_ (some p15)), (3, vR_ (some p17)), (4, vI_ x21)]) dL_law_366 (Nat.le_of_ble_eq_true rfl) rfl ?_
        refine a_aload_n 3 dL_law_368 rfl rfl ?_
        refine a_aload_n 1 dL_law_369 rfl rfl ?_
        refine a_iload 5 dL_law_370 rfl ?_
        refine a_iconst (v := 1) dL_law_372 (by decide) ?_
        refine a_iadd dL_law_373 ?_
        obtain ⟨c64, h⟩ := iz_some h
        refine a_sld (bn_ c64) dL_law_374 ?_
        refine a_aload_n 1 dL_law_375 rfl rfl ?_
        refine a_iload 5 dL_law_376 rfl ?_
        refine a_iconst (v := 2) dL_law_378 (by decide) ?_
        refine a_iadd dL_law_379 ?_
        obtain ⟨c65, h⟩ := iz_some h
        refine a_sld (bn_ c65) dL_law_380 ?_
        obtain ⟨v68, m66, e67, h⟩ := bm_some h
        have he67 := e_X8_law (G := G) hl hf16 e67
        refine c_I he67.1 (rn_V (n := 2) (As := [vI_ ((xg_x G) (x21 + 1).toNatClampNeg), vI_ ((xg_x G) (x21 + 2).toNatClampNeg)]) kc_8 hf16 he67 (lw_V q1819 q1820 q1821 q97 q1822) (by decide +kernel) rfl (by show 49 + 1 ≤ 1000; omega) (Nat.le_of_ble_eq_true rfl) (Nat.le_of_ble_eq_true rfl) dL_law_381) (fun z => (os_av (As := [vI_ ((xg_x G) (x21 + 1).toNatClampNeg), vI_ ((xg_x G) (x21 + 2).toNatClampNeg)]) z).2.1) ?_
        refine a_istore (ls' := [(6, vI_ v68), (5, vI_ v63), (0, vR_ (some ((201, 0, 0)))), (1, vR_ (some p13)), (2, vR_ (some p15)), (3, vR_ (some p17)), (4, vI_ x21)]) dL_law_384 (Nat.le_of_ble_eq_true rfl) rfl ?_
        refine a_aload_n 4 dL_law_386 rfl rfl ?_
        obtain ⟨v71, m69, e70, h⟩ := bm_some h
        have he70 := e_X8_thrown (G := G) hl hf16 e70
        refine c_I he70.1 (rn_V (n := 0) (As := []) kc_8 hf16 he70 (lw_V q1532 q1533 q1534 q97 q1535) (by decide +kernel) rfl (by show 2 + 1 ≤ 1000; omega) (Nat.le_of_ble_eq_true rfl) (Nat.le_of_ble_eq_true rfl) dL_law_387) (fun z => (os_av (As := []) z).2.1) ?_
        refine a_iload 1 dL_law_390 rfl ?_
        refine a_icmp_eq (tgt := 397) dL_law_392 (by decide) (fun c72 => ?_) (fun c72 => ?_)
        · replace h := ifp_ c72 h
          refine a_iload 1 dL_law_397 rfl ?_
          refine a_if_ne (tgt := 414) dL_law_399 (by decide) (fun c73 => ?_) (fun c73 => ?_)
          · replace h := ifn_ c73 h
            refine a_goto (tgt := 2576) dL_law_414 (by decide) ?_
            refine a_iinc (v := x21 + 7) (ls' := [(4, vI_ (x21 + 7)), (6, vI_ v68), (5, vI_ v63), (0, vR_ (some ((201, 0, 0)))), (1, vR_ (some p13)), (2, vR_ (some p15)), (3, vR_ (some p17))]) 6 dL_law_2576 rfl rfl (Nat.le_of_ble_eq_true rfl) rfl ?_
            refine a_goto (tgt := 23) dL_law_2579 (by decide) ?_
            refine aw_pick [3, 4, 5, 6, 0] rfl ?_
            exact ih _ _ h
          · replace h := ifp_ c73 h
            refine a_aload_n 5 dL_law_402 rfl rfl ?_
            refine a_iconst (v := 0) dL_law_403 (by decide) ?_
            obtain ⟨c74, h⟩ := iz_some h
            refine a_lald hf18 (bn_ c74) dL_law_404 ?_
            refine a_iload 0 dL_law_405 rfl ?_
            refine a_i2l dL_law_407 ?_
            refine a_lcmp dL_law_408 ?_
            refine a_if_eq (tgt := 414) dL_law_409 (by decide) (fun c75 => ?_) (fun c75 => ?_)
            · replace h := ifp_ c75 h
              refine a_goto (tgt := 2576) dL_law_414 (by decide) ?_
              refine a_iinc (v := x21 + 7) (ls' := [(4, vI_ (x21 + 7)), (6, vI_ v68), (5, vI_ v63), (0, vR_ (some ((201, 0, 0)))), (1, vR_ (some p13)), (2, vR_ (some p15)), (3, vR_ (some p17))]) 6 dL_law_2576 rfl rfl (Nat.le_of_ble_eq_true rfl) rfl ?_
              refine a_goto (tgt := 23) dL_law_2579 (by decide) ?_
              refine aw_pick [3, 4, 5, 6, 0] rfl ?_
              exact ih _ _ h
            · replace h := ifn_ c75 h
              refine a_iconst (v := 0) dL_law_412 (by decide) ?_
              cases h
        · replace h := ifn_ c72 h
          refine a_iconst (v := 0) dL_law_395 (by decide) ?_
          cases h
      replace h := ifn_ c58 h
      by_cases c76 : (((xg_x G) x21.toNatClampNeg) &&& 63).toInt = 3
      · replace h := ifp_ c76 h
        refine a_tabIn (tgt := 417) dL_law_40 (by rw [c76]; decide) (by rw [c76]; decide) (by rw [c76]; rfl) (by decide) ?_
        refine a_aload_n 1 dL_law_417 rfl rfl ?_
        refine a_aload_n 0 dL_law_418 rfl rfl ?_
        refine a_iload 4 dL_law_419 rfl ?_
        refine a_iconst (v := 1) dL_law_421 (by decide) ?_
        refine a_iadd dL_law_422 ?_
        obtain ⟨c77, h⟩ := iz_some h
        refine a_sld (bn_ c77) dL_law_423 ?_
        refine a_aload_n 3 dL_law_424 rfl rfl ?_
        obtain ⟨v80, m78, e79, h⟩ := bm_some h
        have he79 := e_X0_work (G := G) hl e79
        refine c_I he79.1 (rn_SH (n := 3) (As := [vR_ (some p13), vI_ ((xg_x G) (x21 + 1).toNatClampNeg), vR_ (some p17)]) he79 (lw_SW q946 q947 q89 q948) (by decide +kernel) rfl (by show 196 + 1 ≤ 1000; omega) (Nat.le_of_ble_eq_true rfl) (Nat.le_of_ble_eq_true rfl) dL_law_425) (fun z => (os_aS (As := [vR_ (some p13), vI_ ((xg_x G) (x21 + 1).toNatClampNeg), vR_ (some p17)]) z).2) ?_
        refine a_istore (ls' := [(5, vI_ v80), (0, vR_ (some ((201, 0, 0)))), (1, vR_ (some p13)), (2, vR_ (some p15)), (3, vR_ (some p17)), (4, vI_ x21)]) dL_law_428 (Nat.le_of_ble_eq_true rfl) rfl ?_
        refine a_aload_n 3 dL_law_430 rfl rfl ?_
        refine a_aload_n 1 dL_law_431 rfl rfl ?_
        refine a_iload 5 dL_law_432 rfl ?_
        refine a_iconst (v := 1) dL_law_434 (by decide) ?_
        refine a_iadd dL_law_435 ?_
        obtain ⟨c81, h⟩ := iz_some h
        refine a_sld (bn_ c81) dL_law_436 ?_
        obtain ⟨v84, m82, e83, h⟩ := bm_some h
        have he83 := e_X8_work (G := G) hl hf16 e83
        refine c_I he83.1 (rn_V (n := 1) (As := [vI_ ((xg_x G) (x21 + 1).toNatClampNeg)]) kc_8 hf16 he83 (lw_V q1864 q1865 q1866 q97 q1867) (by decide +kernel) rfl (by show 22 + 1 ≤ 1000; omega) (Nat.le_of_ble_eq_true rfl) (Nat.le_of_ble_eq_true rfl) dL_law_437) (fun z => (os_av (As := [vI_ ((xg_x G) (x21 + 1).toNatClampNeg)]) z).2.1) ?_
        refine a_istore (ls' := [(6, vI_ v84), (5, vI_ v80), (0, vR_ (some ((201, 0, 0)))), (1, vR_ (some p13)), (2, vR_ (some p15)), (3, vR_ (some p17)), (4, vI_ x21)]) dL_law_440 (Nat.le_of_ble_eq_true rfl) rfl ?_
        refine a_aload_n 4 dL_law_442 rfl rfl ?_
        obtain ⟨v87, m85, e86, h⟩ := bm_some h
        have he86 := e_X8_thrown (G := G) hl hf16 e86
        refine c_I he86.1 (rn_V (n := 0) (As := []) kc_8 hf16 he86 (lw_V q1532 q1533 q1534 q97 q1535) (by decide +kernel) rfl (by show 2 + 1 ≤ 1000; omega) (Nat.le_of_ble_eq_true rfl) (Nat.le_of_ble_eq_true rfl) dL_law_443) (fun z => (os_av (As := []) z).2.1) ?_
        refine a_iload 1 dL_law_446 rfl ?_
        refine a_icmp_eq (tgt := 453) dL_law_448 (by decide) (fun c88 => ?_) (fun c88 => ?_)
        · replace h := ifp_ c88 h
          refine a_iload 1 dL_law_453 rfl ?_
          refine a_if_ne (tgt := 470) dL_law_455 (by decide) (fun c89 => ?_) (fun c89 => ?_)
          · replace h := ifn_ c89 h
            refine a_goto (tgt := 2576) dL_law_470 (by decide) ?_
            refine a_iinc (v := x21 + 7) (ls' := [(4, vI_ (x21 + 7)), (6, vI_ v84), (5, vI_ v80), (0, vR_ (some ((201, 0, 0)))), (1, vR_ (some p13)), (2, vR_ (some p15)), (3, vR_ (some p17))]) 6 dL_law_2576 rfl rfl (Nat.le_of_ble_eq_true rfl) rfl ?_
            refine a_goto (tgt := 23) dL_law_2579 (by decide) ?_
            refine aw_pick [3, 4, 5, 6, 0] rfl ?_
            exact ih _ _ h
          · replace h := ifp_ c89 h
            refine a_aload_n 5 dL_law_458 rfl rfl ?_
            refine a_iconst (v := 0) dL_law_459 (by decide) ?_
            obtain ⟨c90, h⟩ := iz_some h
            refine a_lald hf18 (bn_ c90) dL_law_460 ?_
            refine a_iload 0 dL_law_461 rfl ?_
            refine a_i2l dL_law_463 ?_
            refine a_lcmp dL_law_464 ?_
            refine a_if_eq (tgt := 470) dL_law_465 (by decide) (fun c91 => ?_) (fun c91 => ?_)
            · replace h := ifp_ c91 h
              refine a_goto (tgt := 2576) dL_law_470 (by decide) ?_
              refine a_iinc (v := x21 + 7) (ls' := [(4, vI_ (x21 + 7)), (6, vI_ v84), (5, vI_ v80), (0, vR_ (some ((201, 0, 0)))), (1, vR_ (some p13)), (2, vR_ (some p15)), (3, vR_ (some p17))]) 6 dL_law_2576 rfl rfl (Nat.le_of_ble_eq_true rfl) rfl ?_
              refine a_goto (tgt := 23) dL_law_2579 (by decide) ?_
              refine aw_pick [3, 4, 5, 6, 0] rfl ?_
              exact ih _ _ h
            · replace h := ifn_ c91 h
              refine a_iconst (v := 0) dL_law_468 (by decide) ?_
              cases h
        · replace h := ifn_ c88 h
          refine a_iconst (v := 0) dL_law_451 (by decide) ?_
          cases h
      replace h := ifn_ c76 h
      by_cases c92 : (((xg_x G) x21.toNatClampNeg) &&& 63).toInt = 4
      · replace h := ifp_ c92 h
        refine a_tabIn (tgt := 473) dL_law_40 (by rw [c92]; decide) (by rw [c92]; decide) (by rw [c92]; rfl) (by decide) ?_
        refine a_aload_n 1 dL_law_473 rfl rfl ?_
        refine a_aload_n 0 dL_law_474 rfl rfl ?_
        refine a_iload 4 dL_law_475 rfl ?_
        refine a_iconst (v := 1) dL_law_477 (by decide) ?_
        refine a_iadd dL_law_478 ?_
        obtain ⟨c93, h⟩ := iz_some h
        refine a_sld (bn_ c93) dL_law_479 ?_
        refine a_aload_n 3 dL_law_480 rfl rfl ?_
        obtain ⟨v96, m94, e95, h⟩ := bm_some h
        have he95 := e_X0_book (G := G) hl e95
        refine c_I he95.1 (rn_SH (n := 3) (As := [vR_ (some p13), vI_ ((xg_x G) (x21 + 1).toNatClampNeg), vR_ (some p17)]) he95 (lw_SW q1206 q1207 q89 q1208) (by decide +kernel) rfl (by show 8 + 1 ≤ 1000; omega) (Nat.le_of_ble_eq_true rfl) (Nat.le_of_ble_eq_true rfl) dL_law_481) (fun z => (os_aS (As := [vR_ (some p13), vI_ ((xg_x G) (x21 + 1).toNatClampNeg), vR_ (some p17)]) z).2) ?_
        refine a_istore (ls' := [(5, vI_ v96), (0, vR_ (some ((201, 0, 0)))), (1, vR_ (some p13)), (2, vR_ (some p15)), (3, vR_ (some p17)), (4, vI_ x21)]) dL_law_484 (Nat.le_of_ble_eq_true rfl) rfl ?_
        refine a_aload_n 3 dL_law_486 rfl rfl ?_
        refine a_aload_n 1 dL_law_487 rfl rfl ?_
        refine a_iload 5 dL_law_488 rfl ?_
        refine a_iconst (v := 1) dL_law_490 (by decide) ?_
        refine a_iadd dL_law_491 ?_
        obtain ⟨c97, h⟩ := iz_some h
        refine a_sld (bn_ c97) dL_law_492 ?_
        obtain ⟨v100, m98, e99, h⟩ := bm_some h
        have he99 := e_X8_book (G := G) hl hf16 e99
        refine c_I he99.1 (rn_V (n := 1) (As := [vI_ ((xg_x G) (x21 + 1).toNatClampNeg)]) kc_8 hf16 he99 (lw_V q1967 q1968 q1969 q97 q1970) (by decide +kernel) rfl (by show 4 + 1 ≤ 1000; omega) (Nat.le_of_ble_eq_true rfl) (Nat.le_of_ble_eq_true rfl) dL_law_493) (fun z => (os_av (As := [vI_ ((xg_x G) (x21 + 1).toNatClampNeg)]) z).2.1) ?_
        refine a_istore (ls' := [(6, vI_ v100), (5, vI_ v96), (0, vR_ (some ((201, 0, 0)))), (1, vR_ (some p13)), (2, vR_ (some p15)), (3, vR_ (some p17)), (4, vI_ x21)]) dL_law_496 (Nat.le_of_ble_eq_true rfl) rfl ?_
        refine a_aload_n 4 dL_law_498 rfl rfl ?_
        obtain ⟨v103, m101, e102, h⟩ := bm_some h
        have he102 := e_X8_thrown (G := G) hl hf16 e102
        refine c_I he102.1 (rn_V (n := 0) (As := []) kc_8 hf16 he102 (lw_V q1532 q1533 q1534 q97 q1535) (by decide +kernel) rfl (by show 2 + 1 ≤ 1000; omega) (Nat.le_of_ble_eq_true rfl) (Nat.le_of_ble_eq_true rfl) dL_law_499) (fun z => (os_av (As := []) z).2.1) ?_
        refine a_iload 1 dL_law_502 rfl ?_
        refine a_icmp_eq (tgt := 509) dL_law_504 (by decide) (fun c104 => ?_) (fun c104 => ?_)
        · replace h := ifp_ c104 h
          refine a_iload 1 dL_law_509 rfl ?_
          refine a_if_ne (tgt := 526) dL_law_511 (by decide) (fun c105 => ?_) (fun c105 => ?_)
          · replace h := ifn_ c105 h
            refine a_goto (tgt := 2576) dL_law_526 (by decide) ?_
            refine a_iinc (v := x21 + 7) (ls' := [(4, vI_ (x21 + 7)), (6, vI_ v100), (5, vI_ v96), (0, vR_ (some ((201, 0, 0)))), (1, vR_ (some p13)), (2, vR_ (some p15)), (3, vR_ (some p17))]) 6 dL_law_2576 rfl rfl (Nat.le_of_ble_eq_true rfl) rfl ?_
            refine a_goto (tgt := 23) dL_law_2579 (by decide) ?_
            refine aw_pick [3, 4, 5, 6, 0] rfl ?_
            exact ih _ _ h
          · replace h := ifp_ c105 h
            refine a_aload_n 5 dL_law_514 rfl rfl ?_
            refine a_iconst (v := 0) dL_law_515 (by decide) ?_
            obtain ⟨c106, h⟩ := iz_some h
            refine a_lald hf18 (bn_ c106) dL_law_516 ?_
            refine a_iload 0 dL_law_517 rfl ?_
            refine a_i2l dL_law_519 ?_
            refine a_lcmp dL_law_520 ?_
            refine a_if_eq (tgt := 526) dL_law_521 (by decide) (fun c107 => ?_) (fun c107 => ?_)
            · replace h := ifp_ c107 h
              refine a_goto (tgt := 2576) dL_law_526 (by decide) ?_
              refine a_iinc (v := x21 + 7) (ls' := [(4, vI_ (x21 + 7)), (6, vI_ v100), (5, vI_ v96), (0, vR_ (some ((201, 0, 0)))), (1, vR_ (some p13)), (2, vR_ (some p15)), (3, vR_ (some p17))]) 6 dL_law_2576 rfl rfl (Nat.le_of_ble_eq_true rfl) rfl ?_
              refine a_goto (tgt := 23) dL_law_2579 (by decide) ?_
              refine aw_pick [3, 4, 5, 6, 0] rfl ?_
              exact ih _ _ h
            · replace h := ifn_ c107 h
              refine a_iconst (v := 0) dL_law_524 (by decide) ?_
              cases h
        · replace h := ifn_ c104 h
          refine a_iconst (v := 0) dL_law_507 (by decide) ?_
          cases h
      replace h := ifn_ c92 h
      by_cases c108 : (((xg_x G) x21.toNatClampNeg) &&& 63).toInt = 5
      · replace h := ifp_ c108 h
        refine a_tabIn (tgt := 529) dL_law_40 (by rw [c108]; decide) (by rw [c108]; decide) (by rw [c108]; rfl) (by decide) ?_
        refine a_aload_n 1 dL_law_529 rfl rfl ?_
        obtain ⟨v111, m109, e110, h⟩ := bm_some h
        have he110 := e_X1_fault (G := G) hl hf14 e110
        refine c_I he110.1 (rn_V (n := 0) (As := []) kc_1 hf14 he110 (lw_V q450 q451 q452 q90 q453) (by decide +kernel) rfl (by show 2 + 1 ≤ 1000; omega) (Nat.le_of_ble_eq_true rfl) (Nat.le_of_ble_eq_true rfl) dL_law_530) (fun z => (os_av (As := []) z).2.1) ?_
        refine a_aload_n 2 dL_law_533 rfl rfl ?_
        obtain ⟨v114, m112, e113, h⟩ := bm_some h
        have he113 := e_X8_fault (G := G) hl hf16 e113
        refine c_I he113.1 (rn_V (n := 0) (As := []) kc_8 hf16 he113 (lw_V q1736 q1737 q1738 q97 q1739) (by decide +kernel) rfl (by show 2 + 1 ≤ 1000; omega) (Nat.le_of_ble_eq_true rfl) (Nat.le_of_ble_eq_true rfl) dL_law_534) (fun z => (os_av (As := []) z).2.1) ?_
        refine a_icmp_eq (tgt := 2576) dL_law_537 (by decide) (fun c115 => ?_) (fun c115 => ?_)
        · replace h := ifp_ c115 h
          refine a_iinc (v := x21 + 7) (ls' := [(4, vI_ (x21 + 7)), (0, vR_ (some ((201, 0, 0)))), (1, vR_ (some p13)), (2, vR_ (some p15)), (3, vR_ (some p17))]) 4 dL_law_2576 rfl rfl (Nat.le_of_ble_eq_true rfl) rfl ?_
          refine a_goto (tgt := 23) dL_law_2579 (by decide) ?_
          refine aw_pick [1, 2, 3, 4, 0] rfl ?_
          exact ih _ _ h
        · replace h := ifn_ c115 h
          refine a_iconst (v := 0) dL_law_540 (by decide) ?_
          cases h
      replace h := ifn_ c108 h
      by_cases c116 : (((xg_x G) x21.toNatClampNeg) &&& 63).toInt = 6
      · replace h := ifp_ c116 h
        refine a_tabIn (tgt := 542) dL_law_40 (by rw [c116]; decide) (by rw [c116]; decide) (by rw [c116]; rfl) (by decide) ?_
        refine a_aload_n 1 dL_law_542 rfl rfl ?_
        obtain ⟨v119, m117, e118, h⟩ := bm_some h
        have he118 := e_X1_undo (G := G) hl hf14 e118
        refine c_I he118.1 (rn_V (n := 0) (As := []) kc_1 hf14 he118 (lw_V q454 q455 q456 q90 q457) (by decide +kernel) rfl (by show 2 + 1 ≤ 1000; omega) (Nat.le_of_ble_eq_true rfl) (Nat.le_of_ble_eq_true rfl) dL_law_543) (fun z => (os_av (As := []) z).2.1) ?_
        refine a_aload_n 2 dL_law_546 rfl rfl ?_
        obtain ⟨v122, m120, e121, h⟩ := bm_some h
        have he121 := e_X8_undo (G := G) hl hf16 e121
        refine c_I he121.1 (rn_V (n := 0) (As := []) kc_8 hf16 he121 (lw_V q1971 q1972 q1973 q97 q1974) (by decide +kernel) rfl (by show 2 + 1 ≤ 1000; omega) (Nat.le_of_ble_eq_true rfl) (Nat.le_of_ble_eq_true rfl) dL_law_547) (fun z => (os_av (As := []) z).2.1) ?_
        refine a_icmp_eq (tgt := 2576) dL_law_550 (by decide) (fun c123 => ?_) (fun c123 => ?_)
        · replace h := ifp_ c123 h
          refine a_iinc (v := x21 + 7) (ls' := [(4, vI_ (x21 + 7)), (0, vR_ (some ((201, 0, 0)))), (1, vR_ (some p13)), (2, vR_ (some p15)), (3, vR_ (some p17))]) 4 dL_law_2576 rfl rfl (Nat.le_of_ble_eq_true rfl) rfl ?_
          refine a_goto (tgt := 23) dL_law_2579 (by decide) ?_
          refine aw_pick [1, 2, 3, 4, 0] rfl ?_
          exact ih _ _ h
        · replace h := ifn_ c123 h
          refine a_iconst (v := 0) dL_law_553 (by decide) ?_
          cases h
      replace h := ifn_ c116 h
      by_cases c124 : (((xg_x G) x21.toNatClampNeg) &&& 63).toInt = 7
      · replace h := ifp_ c124 h
        refine a_tabIn (tgt := 555) dL_law_40 (by rw [c124]; decide) (by rw [c124]; decide) (by rw [c124]; rfl) (by decide) ?_
        refine a_aload_n 1 dL_law_555 rfl rfl ?_
        refine a_aload_n 0 dL_law_556 rfl rfl ?_
        refine a_iload 4 dL_law_557 rfl ?_
        refine a_iconst (v := 1) dL_law_559 (by decide) ?_
        refine a_iadd dL_law_560 ?_
        obtain ⟨c125, h⟩ := iz_some h
        refine a_sld (bn_ c125) dL_law_561 ?_
        refine a_aload_n 3 dL_law_562 rfl rfl ?_
        obtain ⟨v128, m126, e127, h⟩ := bm_some h
        have he127 := e_X0_told (G := G) hl e127
        refine c_I he127.1 (rn_SH (n := 3) (As := [vR_ (some p13), vI_ ((xg_x G) (x21 + 1).toNatClampNeg), vR_ (some p17)]) he127 (lw_SW q1219 q1220 q89 q1221) (by decide +kernel) rfl (by show 8 + 1 ≤ 1000; omega) (Nat.le_of_ble_eq_true rfl) (Nat.le_of_ble_eq_true rfl) dL_law_563) (fun z => (os_aS (As := [vR_ (some p13), vI_ ((xg_x G) (x21 + 1).toNatClampNeg), vR_ (some p17)]) z).2) ?_
        refine a_istore (ls' := [(5, vI_ v128), (0, vR_ (some ((201, 0, 0)))), (1, vR_ (some p13)), (2, vR_ (some p15)), (3, vR_ (some p17)), (4, vI_ x21)]) dL_law_566 (Nat.le_of_ble_eq_true rfl) rfl ?_
        refine a_aload_n 3 dL_law_568 rfl rfl ?_
        refine a_aload_n 1 dL_law_569 rfl rfl ?_
        refine a_iload 5 dL_law_570 rfl ?_
        refine a_iconst (v := 1) dL_law_572 (by decide) ?_
        refine a_iadd dL_law_573 ?_
        obtain ⟨c129, h⟩ := iz_some h
        refine a_sld (bn_ c129) dL_law_574 ?_
        obtain ⟨v132, m130, e131, h⟩ := bm_some h
        have he131 := e_X8_told (G := G) hl hf16 e131
        refine c_I he131.1 (rn_V (n := 1) (As := [vI_ ((xg_x G) (x21 + 1).toNatClampNeg)]) kc_8 hf16 he131 (lw_V q1975 q1976 q1977 q97 q1978) (by decide +kernel) rfl (by show 4 + 1 ≤ 1000; omega) (Nat.le_of_ble_eq_true rfl) (Nat.le_of_ble_eq_true rfl) dL_law_575) (fun z => (os_av (As := [vI_ ((xg_x G) (x21 + 1).toNatClampNeg)]) z).2.1) ?_
        refine a_istore (ls' := [(6, vI_ v132), (5, vI_ v128), (0, vR_ (some ((201, 0, 0)))), (1, vR_ (some p13)), (2, vR_ (some p15)), (3, vR_ (some p17)), (4, vI_ x21)]) dL_law_578 (Nat.le_of_ble_eq_true rfl) rfl ?_
        refine a_aload_n 4 dL_law_580 rfl rfl ?_
        obtain ⟨v135, m133, e134, h⟩ := bm_some h
        have he134 := e_X8_thrown (G := G) hl hf16 e134
        refine c_I he134.1 (rn_V (n := 0) (As := []) kc_8 hf16 he134 (lw_V q1532 q1533 q1534 q97 q1535) (by decide +kernel) rfl (by show 2 + 1 ≤ 1000; omega) (Nat.le_of_ble_eq_true rfl) (Nat.le_of_ble_eq_true rfl) dL_law_581) (fun z => (os_av (As := []) z).2.1) ?_
        refine a_iload 1 dL_law_584 rfl ?_
        refine a_icmp_eq (tgt := 591) dL_law_586 (by decide) (fun c136 => ?_) (fun c136 => ?_)
        · replace h := ifp_ c136 h
          refine a_iload 1 dL_law_591 rfl ?_
          refine a_if_ne (tgt := 608) dL_law_593 (by decide) (fun c137 => ?_) (fun c137 => ?_)
          · replace h := ifn_ c137 h
            refine a_goto (tgt := 2576) dL_law_608 (by decide) ?_
            refine a_iinc (v := x21 + 7) (ls' := [(4, vI_ (x21 + 7)), (6, vI_ v132), (5, vI_ v128), (0, vR_ (some ((201, 0, 0)))), (1, vR_ (some p13)), (2, vR_ (some p15)), (3, vR_ (some p17))]) 6 dL_law_2576 rfl rfl (Nat.le_of_ble_eq_true rfl) rfl ?_
            refine a_goto (tgt := 23) dL_law_2579 (by decide) ?_
            refine aw_pick [3, 4, 5, 6, 0] rfl ?_
            exact ih _ _ h
          · replace h := ifp_ c137 h
            refine a_aload_n 5 dL_law_596 rfl rfl ?_
            refine a_iconst (v := 0) dL_law_597 (by decide) ?_
            obtain ⟨c138, h⟩ := iz_some h
            refine a_lald hf18 (bn_ c138) dL_law_598 ?_
            refine a_iload 0 dL_law_599 rfl ?_
            refine a_i2l dL_law_601 ?_
            refine a_lcmp dL_law_602 ?_
            refine a_if_eq (tgt := 608) dL_law_603 (by decide) (fun c139 => ?_) (fun c139 => ?_)
            · replace h := ifp_ c139 h
              refine a_goto (tgt := 2576) dL_law_608 (by decide) ?_
              refine a_iinc (v := x21 + 7) (ls' := [(4, vI_ (x21 + 7)), (6, vI_ v132), (5, vI_ v128), (0, vR_ (some ((201, 0, 0)))), (1, vR_ (some p13)), (2, vR_ (some p15)), (3, vR_ (some p17))]) 6 dL_law_2576 rfl rfl (Nat.le_of_ble_eq_true rfl) rfl ?_
              refine a_goto (tgt := 23) dL_law_2579 (by decide) ?_
              refine aw_pick [3, 4, 5, 6, 0] rfl ?_
              exact ih _ _ h
            · replace h := ifn_ c139 h
              refine a_iconst (v := 0) dL_law_606 (by decide) ?_
              cases h
        · replace h := ifn_ c136 h
          refine a_iconst (v := 0) dL_law_589 (by decide) ?_
          cases h
      replace h := ifn_ c124 h
      by_cases c140 : (((xg_x G) x21.toNatClampNeg) &&& 63).toInt = 8
      · replace h := ifp_ c140 h
        refine a_tabIn (tgt := 611) dL_law_40 (by rw [c140]; decide) (by rw [c140]; decide) (by rw [c140]; rfl) (by decide) ?_
        refine a_aload_n 1 dL_law_611 rfl rfl ?_
        refine a_aload_n 0 dL_law_612 rfl rfl ?_
        refine a_iload 4 dL_law_613 rfl ?_
        refine a_iconst (v := 1) dL_law_615 (by decide) ?_
        refine a_iadd dL_law_616 ?_
        obtain ⟨c141, h⟩ := iz_some h
        refine a_sld (bn_ c141) dL_law_617 ?_
        refine a_aload_n 0 dL_law_618 rfl rfl ?_
        refine a_iload 4 dL_law_619 rfl ?_
        refine a_iconst (v := 2) dL_law_621 (by decide) ?_
        refine a_iadd dL_law_622 ?_
        obtain ⟨c142, h⟩ := iz_some h
        refine a_sld (bn_ c142) dL_law_623 ?_
        refine a_aload_n 3 dL_law_624 rfl rfl ?_
        obtain ⟨v145, m143, e144, h⟩ := bm_some h
        have he144 := e_X0_signer (G := G) hl e144
        refine c_I he144.1 (rn_SH (n := 4) (As := [vR_ (some p13), vI_ ((xg_x G) (x21 + 1).toNatClampNeg), vI_ ((xg_x G) (x21 + 2).toNatClampNeg), vR_ (some p17)]) he144 (lw_SW q1226 q1227 q89 q1228) (by decide +kernel) rfl (by show 8 + 1 ≤ 1000; omega) (Nat.le_of_ble_eq_true rfl) (Nat.le_of_ble_eq_true rfl) dL_law_625) (fun z => (os_aS (As := [vR_ (some p13), vI_ ((xg_x G) (x21 + 1).toNatClampNeg), vI_ ((xg_x G) (x21 + 2).toNatClampNeg), vR_ (some p17)]) z).2) ?_
        refine a_istore (ls' := [(5, vI_ v145), (0, vR_ (some ((201, 0, 0)))), (1, vR_ (some p13)), (2, vR_ (some p15)), (3, vR_ (some p17)), (4, vI_ x21)]) dL_law_628 (Nat.le_of_ble_eq_true rfl) rfl ?_
        refine a_aload_n 3 dL_law_630 rfl rfl ?_
        refine a_aload_n 1 dL_law_631 rfl rfl ?_
        refine a_iload 5 dL_law_632 rfl ?_
        refine a_iconst (v := 1) dL_law_634 (by decide) ?_
        refine a_iadd dL_law_635 ?_
        obtain ⟨c146, h⟩ := iz_some h
        refine a_sld (bn_ c146) dL_law_636 ?_
        refine a_aload_n 1 dL_law_637 rfl rfl ?_
        refine a_iload 5 dL_law_638 rfl ?_
        refine a_iconst (v := 2) dL_law_640 (by decide) ?_
        refine a_iadd dL_law_641 ?_
        obtain ⟨c147, h⟩ := iz_some h
        refine a_sld (bn_ c147) dL_law_642 ?_
        obtain ⟨v150, m148, e149, h⟩ := bm_some h
        have he149 := e_X8_signer (G := G) hl hf16 e149
        refine c_I he149.1 (rn_V (n := 2) (As := [vI_ ((xg_x G) (x21 + 1).toNatClampNeg), vI_ ((xg_x G) (x21 + 2).toNatClampNeg)]) kc_8 hf16 he149 (lw_V q1979 q1980 q1981 q97 q1982) (by decide +kernel) rfl (by show 4 + 1 ≤ 1000; omega) (Nat.le_of_ble_eq_true rfl) (Nat.le_of_ble_eq_true rfl) dL_law_643) (fun z => (os_av (As := [vI_ ((xg_x G) (x21 + 1).toNatClampNeg), vI_ ((xg_x G) (x21 + 2).toNatClampNeg)]) z).2.1) ?_
        refine a_istore (ls' := [(6, vI_ v150), (5, vI_ v145), (0, vR_ (some ((201, 0, 0)))), (1, vR_ (some p13)), (2, vR_ (some p15)), (3, vR_ (some p17)), (4, vI_ x21)]) dL_law_646 (Nat.le_of_ble_eq_true rfl) rfl ?_
        refine a_aload_n 4 dL_law_648 rfl rfl ?_
        obtain ⟨v153, m151, e152, h⟩ := bm_some h
        have he152 := e_X8_thrown (G := G) hl hf16 e152
        refine c_I he152.1 (rn_V (n := 0) (As := []) kc_8 hf16 he152 (lw_V q1532 q1533 q1534 q97 q1535) (by decide +kernel) rfl (by show 2 + 1 ≤ 1000; omega) (Nat.le_of_ble_eq_true rfl) (Nat.le_of_ble_eq_true rfl) dL_law_649) (fun z => (os_av (As := []) z).2.1) ?_
        refine a_iload 1 dL_law_652 rfl ?_
        refine a_icmp_eq (tgt := 659) dL_law_654 (by decide) (fun c154 => ?_) (fun c154 => ?_)
        · replace h := ifp_ c154 h
          refine a_iload 1 dL_law_659 rfl ?_
          refine a_if_ne (tgt := 676) dL_law_661 (by decide) (fun c155 => ?_) (fun c155 => ?_)
          · replace h := ifn_ c155 h
            refine a_goto (tgt := 2576) dL_law_676 (by decide) ?_
            refine a_iinc (v := x21 + 7) (ls' := [(4, vI_ (x21 + 7)), (6, vI_ v150), (5, vI_ v145), (0, vR_ (some ((201, 0, 0)))), (1, vR_ (some p13)), (2, vR_ (some p15)), (3, vR_ (some p17))]) 6 dL_law_2576 rfl rfl (Nat.le_of_ble_eq_true rfl) rfl ?_
            refine a_goto (tgt := 23) dL_law_2579 (by decide) ?_
            refine aw_pick [3, 4, 5, 6, 0] rfl ?_
            exact ih _ _ h
          · replace h := ifp_ c155 h
            refine a_aload_n 5 dL_law_664 rfl rfl ?_
            refine a_iconst (v := 0) dL_law_665 (by decide) ?_
            obtain ⟨c156, h⟩ := iz_some h
            refine a_lald hf18 (bn_ c156) dL_law_666 ?_
            refine a_iload 0 dL_law_667 rfl ?_
            refine a_i2l dL_law_669 ?_
            refine a_lcmp dL_law_670 ?_
            refine a_if_eq (tgt := 676) dL_law_671 (by decide) (fun c157 => ?_) (fun c157 => ?_)
            · replace h := ifp_ c157 h
              refine a_goto (tgt := 2576) dL_law_676 (by decide) ?_
              refine a_iinc (v := x21 + 7) (ls' := [(4, vI_ (x21 + 7)), (6, vI_ v150), (5, vI_ v145), (0, vR_ (some ((201, 0, 0)))), (1, vR_ (some p13)), (2, vR_ (some p15)), (3, vR_ (some p17))]) 6 dL_law_2576 rfl rfl (Nat.le_of_ble_eq_true rfl) rfl ?_
              refine a_goto (tgt := 23) dL_law_2579 (by decide) ?_
              refine aw_pick [3, 4, 5, 6, 0] rfl ?_
              exact ih _ _ h
            · replace h := ifn_ c157 h
              refine a_iconst (v := 0) dL_law_674 (by decide) ?_
              cases h
        · replace h := ifn_ c154 h
          refine a_iconst (v := 0) dL_law_657 (by decide) ?_
          cases h
      replace h := ifn_ c140 h
      by_cases c158 : (((xg_x G) x21.toNatClampNeg) &&& 63).toInt = 9
      · replace h := ifp_ c158 h
        refine a_tabIn (tgt := 679) dL_law_40 (by rw [c158]; decide) (by rw [c158]; decide) (by rw [c158]; rfl) (by decide) ?_
        refine a_aload_n 1 dL_law_679 rfl rfl ?_
        refine a_aload_n 0 dL_law_680 rfl rfl ?_
        refine a_iload 4 dL_law_681 rfl ?_
        refine a_iconst (v := 1) dL_law_683 (by decide) ?_
        refine a_iadd dL_law_684 ?_
        obtain ⟨c159, h⟩ := iz_some h
        refine a_sld (bn_ c159) dL_law_685 ?_
        refine a_aload_n 0 dL_law_686 rfl rfl ?_
        refine a_iload 4 dL_law_687 rfl ?_
        refine a_iconst (v := 2) dL_law_689 (by decide) ?_
        refine a_iadd dL_law_690 ?_
        obtain ⟨c160, h⟩ := iz_some h
        refine a_sld (bn_ c160) dL_law_691 ?_
        refine a_aload_n 3 dL_law_692 rfl rfl ?_
        obtain ⟨v163, m161, e162, h⟩ := bm_some h
        have he162 := e_X0_taker (G := G) hl e162
        refine c_I he162.1 (rn_SH (n := 4) (As := [vR_ (some p13), vI_ ((xg_x G) (x21 + 1).toNatClampNeg), vI_ ((xg_x G) (x21 + 2).toNatClampNeg), vR_ (some p17)]) he162 (lw_SW q1253 q1254 q89 q1255) (by decide +kernel) rfl (by show 8 + 1 ≤ 1000; omega) (Nat.le_of_ble_eq_true rfl) (Nat.le_of_ble_eq_true rfl) dL_law_693) (fun z => (os_aS (As := [vR_ (some p13), vI_ ((xg_x G) (x21 + 1).toNatClampNeg), vI_ ((xg_x G) (x21 + 2).toNatClampNeg), vR_ (some p17)]) z).2) ?_
        refine a_istore (ls' := [(5, vI_ v163), (0, vR_ (some ((201, 0, 0)))), (1, vR_ (some p13)), (2, vR_ (some p15)), (3, vR_ (some p17)), (4, vI_ x21)]) dL_law_696 (Nat.le_of_ble_eq_true rfl) rfl ?_
        refine a_aload_n 3 dL_law_698 rfl rfl ?_
        refine a_aload_n 1 dL_law_699 rfl rfl ?_
        refine a_iload 5 dL_law_700 rfl ?_
        refine a_iconst (v := 1) dL_law_702 (by decide) ?_
        refine a_iadd dL_law_703 ?_
        obtain ⟨c164, h⟩ := iz_some h
        refine a_sld (bn_ c164) dL_law_704 ?_
        refine a_aload_n 1 dL_law_705 rfl rfl ?_
        refine a_iload 5 dL_law_706 rfl ?_
        refine a_iconst (v := 2) dL_law_708 (by decide) ?_
        refine a_iadd dL_law_709 ?_
        obtain ⟨c165, h⟩ := iz_some h
        refine a_sld (bn_ c165) dL_law_710 ?_
        obtain ⟨v168, m166, e167, h⟩ := bm_some h
        have he167 := e_X8_taker (G := G) hl hf16 e167
        refine c_I he167.1 (rn_V (n := 2) (As := [vI_ ((xg_x G) (x21 + 1).toNatClampNeg), vI_ ((xg_x G) (x21 + 2).toNatClampNeg)]) kc_8 hf16 he167 (lw_V q1987 q1988 q1989 q97 q1990) (by decide +kernel) rfl (by show 4 + 1 ≤ 1000; omega) (Nat.le_of_ble_eq_true rfl) (Nat.le_of_ble_eq_true rfl) dL_law_711) (fun z => (os_av (As := [vI_ ((xg_x G) (x21 + 1).toNatClampNeg), vI_ ((xg_x G) (x21 + 2).toNatClampNeg)]) z).2.1) ?_
        refine a_istore (ls' := [(6, vI_ v168), (5, vI_ v163), (0, vR_ (some ((201, 0, 0)))), (1, vR_ (some p13)), (2, vR_ (some p15)), (3, vR_ (some p17)), (4, vI_ x21)]) dL_law_714 (Nat.le_of_ble_eq_true rfl) rfl ?_
        refine a_aload_n 4 dL_law_716 rfl rfl ?_
        obtain ⟨v171, m169, e170, h⟩ := bm_some h
        have he170 := e_X8_thrown (G := G) hl hf16 e170
        refine c_I he170.1 (rn_V (n := 0) (As := []) kc_8 hf16 he170 (lw_V q1532 q1533 q1534 q97 q1535) (by decide +kernel) rfl (by show 2 + 1 ≤ 1000; omega) (Nat.le_of_ble_eq_true rfl) (Nat.le_of_ble_eq_true rfl) dL_law_717) (fun z => (os_av (As := []) z).2.1) ?_
        refine a_iload 1 dL_law_720 rfl ?_
        refine a_icmp_eq (tgt := 727) dL_law_722 (by decide) (fun c172 => ?_) (fun c172 => ?_)
        · replace h := ifp_ c172 h
          refine a_iload 1 dL_law_727 rfl ?_
          refine a_if_ne (tgt := 744) dL_law_729 (by decide) (fun c173 => ?_) (fun c173 => ?_)
          · replace h := ifn_ c173 h
            refine a_goto (tgt := 2576) dL_law_744 (by decide) ?_
            refine a_iinc (v := x21 + 7) (ls' := [(4, vI_ (x21 + 7)), (6, vI_ v168), (5, vI_ v163), (0, vR_ (some ((201, 0, 0)))), (1, vR_ (some p13)), (2, vR_ (some p15)), (3, vR_ (some p17))]) 6 dL_law_2576 rfl rfl (Nat.le_of_ble_eq_true rfl) rfl ?_
            refine a_goto (tgt := 23) dL_law_2579 (by decide) ?_
            refine aw_pick [3, 4, 5, 6, 0] rfl ?_
            exact ih _ _ h
          · replace h := ifp_ c173 h
            refine a_aload_n 5 dL_law_732 rfl rfl ?_
            refine a_iconst (v := 0) dL_law_733 (by decide) ?_
            obtain ⟨c174, h⟩ := iz_some h
            refine a_lald hf18 (bn_ c174) dL_law_734 ?_
            refine a_iload 0 dL_law_735 rfl ?_
            refine a_i2l dL_law_737 ?_
            refine a_lcmp dL_law_738 ?_
            refine a_if_eq (tgt := 744) dL_law_739 (by decide) (fun c175 => ?_) (fun c175 => ?_)
            · replace h := ifp_ c175 h
              refine a_goto (tgt := 2576) dL_law_744 (by decide) ?_
              refine a_iinc (v := x21 + 7) (ls' := [(4, vI_ (x21 + 7)), (6, vI_ v168), (5, vI_ v163), (0, vR_ (some ((201, 0, 0)))), (1, vR_ (some p13)), (2, vR_ (some p15)), (3, vR_ (some p17))]) 6 dL_law_2576 rfl rfl (Nat.le_of_ble_eq_true rfl) rfl ?_
              refine a_goto (tgt := 23) dL_law_2579 (by decide) ?_
              refine aw_pick [3, 4, 5, 6, 0] rfl ?_
              exact ih _ _ h
            · replace h := ifn_ c175 h
              refine a_iconst (v := 0) dL_law_742 (by decide) ?_
              cases h
        · replace h := ifn_ c172 h
          refine a_iconst (v := 0) dL_law_725 (by decide) ?_
          cases h
      replace h := ifn_ c158 h
      by_cases c176 : (((xg_x G) x21.toNatClampNeg) &&& 63).toInt = 10
      · replace h := ifp_ c176 h
        refine a_tabIn (tgt := 747) dL_law_40 (by rw [c176]; decide) (by rw [c176]; decide) (by rw [c176]; rfl) (by decide) ?_
        refine a_aload_n 1 dL_law_747 rfl rfl ?_
        refine a_aload_n 0 dL_law_748 rfl rfl ?_
        refine a_iload 4 dL_law_749 rfl ?_
        refine a_iconst (v := 1) dL_law_751 (by decide) ?_
        refine a_iadd dL_law_752 ?_
        obtain ⟨c177, h⟩ := iz_some h
        refine a_sld (bn_ c177) dL_law_753 ?_
        refine a_aload_n 0 dL_law_754 rfl rfl ?_
        refine a_iload 4 dL_law_755 rfl ?_
        refine a_iconst (v := 2) dL_law_757 (by decide) ?_
        refine a_iadd dL_law_758 ?_
        obtain ⟨c178, h⟩ := iz_some h
        refine a_sld (bn_ c178) dL_law_759 ?_
        refine a_aload_n 3 dL_law_760 rfl rfl ?_
        obtain ⟨v181, m179, e180, h⟩ := bm_some h
        have he180 := e_X0_asks (G := G) hl e180
        refine c_I he180.1 (rn_SH (n := 4) (As := [vR_ (some p13), vI_ ((xg_x G) (x21 + 1).toNatClampNeg), vI_ ((xg_x G) (x21 + 2).toNatClampNeg), vR_ (some p17)]) he180 (lw_SW q1265 q1266 q89 q1267) (by decide +kernel) rfl (by show 169 + 1 ≤ 1000; omega) (Nat.le_of_ble_eq_true rfl) (Nat.le_of_ble_eq_true rfl) dL_law_761) (fun z => (os_aS (As := [vR_ (some p13), vI_ ((xg_x G) (x21 + 1).toNatClampNeg), vI_ ((xg_x G) (x21 + 2).toNatClampNeg), vR_ (some p17)]) z).2) ?_
        refine a_istore (ls' := [(5, vI_ v181), (0, vR_ (some ((201, 0, 0)))), (1, vR_ (some p13)), (2, vR_ (some p15)), (3, vR_ (some p17)), (4, vI_ x21)]) dL_law_764 (Nat.le_of_ble_eq_true rfl) rfl ?_
        refine a_aload_n 3 dL_law_766 rfl rfl ?_
        refine a_aload_n 1 dL_law_767 rfl rfl ?_
        refine a_iload 5 dL_law_768 rfl ?_
        refine a_iconst (v := 1) dL_law_770 (by decide) ?_
        refine a_iadd dL_law_771 ?_
        obtain ⟨c182, h⟩ := iz_some h
        refine a_sld (bn_ c182) dL_law_772 ?_
        refine a_aload_n 1 dL_law_773 rfl rfl ?_
        refine a_iload 5 dL_law_774 rfl ?_
        refine a_iconst (v := 2) dL_law_776 (by decide) ?_
        refine a_iadd dL_law_777 ?_
        obtain ⟨c183, h⟩ := iz_some h
        refine a_sld (bn_ c183) dL_law_778 ?_
        obtain ⟨v186, m184, e185, h⟩ := bm_some h
        have he185 := e_X8_asks (G := G) hl hf16 e185
        refine c_I he185.1 (rn_V (n := 2) (As := [vI_ ((xg_x G) (x21 + 1).toNatClampNeg), vI_ ((xg_x G) (x21 + 2).toNatClampNeg)]) kc_8 hf16 he185 (lw_V q1995 q1996 q1997 q97 q1998) (by decide +kernel) rfl (by show 7 + 1 ≤ 1000; omega) (Nat.le_of_ble_eq_true rfl) (Nat.le_of_ble_eq_true rfl) dL_law_779) (fun z => (os_av (As := [vI_ ((xg_x G) (x21 + 1).toNatClampNeg), vI_ ((xg_x G) (x21 + 2).toNatClampNeg)]) z).2.1) ?_
        refine a_istore (ls' := [(6, vI_ v186), (5, vI_ v181), (0, vR_ (some ((201, 0, 0)))), (1, vR_ (some p13)), (2, vR_ (some p15)), (3, vR_ (some p17)), (4, vI_ x21)]) dL_law_782 (Nat.le_of_ble_eq_true rfl) rfl ?_
        refine a_aload_n 4 dL_law_784 rfl rfl ?_
        obtain ⟨v189, m187, e188, h⟩ := bm_some h
        have he188 := e_X8_thrown (G := G) hl hf16 e188
        refine c_I he188.1 (rn_V (n := 0) (As := []) kc_8 hf16 he188 (lw_V q1532 q1533 q1534 q97 q1535) (by decide +kernel) rfl (by show 2 + 1 ≤ 1000; omega) (Nat.le_of_ble_eq_true rfl) (Nat.le_of_ble_eq_true rfl) dL_law_785) (fun z => (os_av (As := []) z).2.1) ?_
        refine a_iload 1 dL_law_788 rfl ?_
        refine a_icmp_eq (tgt := 795) dL_law_790 (by decide) (fun c190 => ?_) (fun c190 => ?_)
        · replace h := ifp_ c190 h
          refine a_iload 1 dL_law_795 rfl ?_
          refine a_if_ne (tgt := 812) dL_law_797 (by decide) (fun c191 => ?_) (fun c191 => ?_)
          · replace h := ifn_ c191 h
            refine a_goto (tgt := 2576) dL_law_812 (by decide) ?_
            refine a_iinc (v := x21 + 7) (ls' := [(4, vI_ (x21 + 7)), (6, vI_ v186), (5, vI_ v181), (0, vR_ (some ((201, 0, 0)))), (1, vR_ (some p13)), (2, vR_ (some p15)), (3, vR_ (some p17))]) 6 dL_law_2576 rfl rfl (Nat.le_of_ble_eq_true rfl) rfl ?_
            refine a_goto (tgt := 23) dL_law_2579 (by decide) ?_
            refine aw_pick [3, 4, 5, 6, 0] rfl ?_
            exact ih _ _ h
          · replace h := ifp_ c191 h
            refine a_aload_n 5 dL_law_800 rfl rfl ?_
            refine a_iconst (v := 0) dL_law_801 (by decide) ?_
            obtain ⟨c192, h⟩ := iz_some h
            refine a_lald hf18 (bn_ c192) dL_law_802 ?_
            refine a_iload 0 dL_law_803 rfl ?_
            refine a_i2l dL_law_805 ?_
            refine a_lcmp dL_law_806 ?_
            refine a_if_eq (tgt := 812) dL_law_807 (by decide) (fun c193 => ?_) (fun c193 => ?_)
            · replace h := ifp_ c193 h
              refine a_goto (tgt := 2576) dL_law_812 (by decide) ?_
              refine a_iinc (v := x21 + 7) (ls' := [(4, vI_ (x21 + 7)), (6, vI_ v186), (5, vI_ v181), (0, vR_ (some ((201, 0, 0)))), (1, vR_ (some p13)), (2, vR_ (some p15)), (3, vR_ (some p17))]) 6 dL_law_2576 rfl rfl (Nat.le_of_ble_eq_true rfl) rfl ?_
              refine a_goto (tgt := 23) dL_law_2579 (by decide) ?_
              refine aw_pick [3, 4, 5, 6, 0] rfl ?_
              exact ih _ _ h
            · replace h := ifn_ c193 h
              refine a_iconst (v := 0) dL_law_810 (by decide) ?_
              cases h
        · replace h := ifn_ c190 h
          refine a_iconst (v := 0) dL_law_793 (by decide) ?_
          cases h
      replace h := ifn_ c176 h
      by_cases c194 : (((xg_x G) x21.toNatClampNeg) &&& 63).toInt = 11
      · replace h := ifp_ c194 h
        refine a_tabIn (tgt := 815) dL_law_40 (by rw [c194]; decide) (by rw [c194]; decide) (by rw [c194]; rfl) (by decide) ?_
        refine a_aload_n 1 dL_law_815 rfl rfl ?_
        refine a_aload_n 0 dL_law_816 rfl rfl ?_
        refine a_iload 4 dL_law_817 rfl ?_
        refine a_iconst (v := 1) dL_law_819 (by decide) ?_
        refine a_iadd dL_law_820 ?_
        obtain ⟨c195, h⟩ := iz_some h
        refine a_sld (bn_ c195) dL_law_821 ?_
        refine a_aload_n 3 dL_law_822 rfl rfl ?_
        obtain ⟨v198, m196, e197, h⟩ := bm_some h
        have he197 := e_X0_owes (G := G) hl e197
        refine c_I he197.1 (rn_SH (n := 3) (As := [vR_ (some p13), vI_ ((xg_x G) (x21 + 1).toNatClampNeg), vR_ (some p17)]) he197 (lw_SW q1273 q1274 q89 q1275) (by decide +kernel) rfl (by show 171 + 1 ≤ 1000; omega) (Nat.le_of_ble_eq_true rfl) (Nat.le_of_ble_eq_true rfl) dL_law_823) (fun z => (os_aS (As := [vR_ (some p13), vI_ ((xg_x G) (x21 + 1).toNatClampNeg), vR_ (some p17)]) z).2) ?_
        refine a_istore (ls' := [(5, vI_ v198), (0, vR_ (some ((201, 0, 0)))), (1, vR_ (some p13)), (2, vR_ (some p15)), (3, vR_ (some p17)), (4, vI_ x21)]) dL_law_826 (Nat.le_of_ble_eq_true rfl) rfl ?_
        refine a_aload_n 3 dL_law_828 rfl rfl ?_
        refine a_aload_n 1 dL_law_829 rfl rfl ?_
        refine a_iload 5 dL_law_830 rfl ?_
        refine a_iconst (v := 1) dL_law_832 (by decide) ?_
        refine a_iadd dL_law_833 ?_
        obtain ⟨c199, h⟩ := iz_some h
        refine a_sld (bn_ c199) dL_law_834 ?_
        obtain ⟨v202, m200, e201, h⟩ := bm_some h
        have he201 := e_X8_owes (G := G) hl hf16 e201
        refine c_I he201.1 (rn_V (n := 1) (As := [vI_ ((xg_x G) (x21 + 1).toNatClampNeg)]) kc_8 hf16 he201 (lw_V q1999 q2000 q2001 q97 q2002) (by decide +kernel) rfl (by show 8 + 1 ≤ 1000; omega) (Nat.le_of_ble_eq_true rfl) (Nat.le_of_ble_eq_true rfl) dL_law_835) (fun z => (os_av (As := [vI_ ((xg_x G) (x21 + 1).toNatClampNeg)]) z).2.1) ?_
        refine a_istore (ls' := [(6, vI_ v202), (5, vI_ v198), (0, vR_ (some ((201, 0, 0)))), (1, vR_ (some p13)), (2, vR_ (some p15)), (3, vR_ (some p17)), (4, vI_ x21)]) dL_law_838 (Nat.le_of_ble_eq_true rfl) rfl ?_
        refine a_aload_n 4 dL_law_840 rfl rfl ?_
        obtain ⟨v205, m203, e204, h⟩ := bm_some h
        have he204 := e_X8_thrown (G := G) hl hf16 e204
        refine c_I he204.1 (rn_V (n := 0) (As := []) kc_8 hf16 he204 (lw_V q1532 q1533 q1534 q97 q1535) (by decide +kernel) rfl (by show 2 + 1 ≤ 1000; omega) (Nat.le_of_ble_eq_true rfl) (Nat.le_of_ble_eq_true rfl) dL_law_841) (fun z => (os_av (As := []) z).2.1) ?_
        refine a_iload 1 dL_law_844 rfl ?_
        refine a_icmp_eq (tgt := 851) dL_law_846 (by decide) (fun c206 => ?_) (fun c206 => ?_)
        · replace h := ifp_ c206 h
          refine a_iload 1 dL_law_851 rfl ?_
          refine a_if_ne (tgt := 868) dL_law_853 (by decide) (fun c207 => ?_) (fun c207 => ?_)
          · replace h := ifn_ c207 h
            refine a_goto (tgt := 2576) dL_law_868 (by decide) ?_
            refine a_iinc (v := x21 + 7) (ls' := [(4, vI_ (x21 + 7)), (6, vI_ v202), (5, vI_ v198), (0, vR_ (some ((201, 0, 0)))), (1, vR_ (some p13)), (2, vR_ (some p15)), (3, vR_ (some p17))]) 6 dL_law_2576 rfl rfl (Nat.le_of_ble_eq_true rfl) rfl ?_
            refine a_goto (tgt := 23) dL_law_2579 (by decide) ?_
            refine aw_pick [3, 4, 5, 6, 0] rfl ?_
            exact ih _ _ h
          · replace h := ifp_ c207 h
            refine a_aload_n 5 dL_law_856 rfl rfl ?_
            refine a_iconst (v := 0) dL_law_857 (by decide) ?_
            obtain ⟨c208, h⟩ := iz_some h
            refine a_lald hf18 (bn_ c208) dL_law_858 ?_
            refine a_iload 0 dL_law_859 rfl ?_
            refine a_i2l dL_law_861 ?_
            refine a_lcmp dL_law_862 ?_
            refine a_if_eq (tgt := 868) dL_law_863 (by decide) (fun c209 => ?_) (fun c209 => ?_)
            · replace h := ifp_ c209 h
              refine a_goto (tgt := 2576) dL_law_868 (by decide) ?_
              refine a_iinc (v := x21 + 7) (ls' := [(4, vI_ (x21 + 7)), (6, vI_ v202), (5, vI_ v198), (0, vR_ (some ((201, 0, 0)))), (1, vR_ (some p13)), (2, vR_ (some p15)), (3, vR_ (some p17))]) 6 dL_law_2576 rfl rfl (Nat.le_of_ble_eq_true rfl) rfl ?_
              refine a_goto (tgt := 23) dL_law_2579 (by decide) ?_
              refine aw_pick [3, 4, 5, 6, 0] rfl ?_
              exact ih _ _ h
            · replace h := ifn_ c209 h
              refine a_iconst (v := 0) dL_law_866 (by decide) ?_
              cases h
        · replace h := ifn_ c206 h
          refine a_iconst (v := 0) dL_law_849 (by decide) ?_
          cases h
      replace h := ifn_ c194 h
      by_cases c210 : (((xg_x G) x21.toNatClampNeg) &&& 63).toInt = 12
      · replace h := ifp_ c210 h
        refine a_tabIn (tgt := 871) dL_law_40 (by rw [c210]; decide) (by rw [c210]; decide) (by rw [c210]; rfl) (by decide) ?_
        refine a_aload_n 1 dL_law_871 rfl rfl ?_
        refine a_aload_n 0 dL_law_872 rfl rfl ?_
        refine a_iload 4 dL_law_873 rfl ?_
        refine a_iconst (v := 1) dL_law_875 (by decide) ?_
        refine a_iadd dL_law_876 ?_
        obtain ⟨c211, h⟩ := iz_some h
        refine a_sld (bn_ c211) dL_law_877 ?_
        refine a_aload_n 0 dL_law_878 rfl rfl ?_
        refine a_iload 4 dL_law_879 rfl ?_
        refine a_iconst (v := 2) dL_law_881 (by decide) ?_
        refine a_iadd dL_law_882 ?_
        obtain ⟨c212, h⟩ := iz_some h
        refine a_sld (bn_ c212) dL_law_883 ?_
        refine a_aload_n 0 dL_law_884 rfl rfl ?_
        refine a_iload 4 dL_law_885 rfl ?_
        refine a_iconst (v := 3) dL_law_887 (by decide) ?_
        refine a_iadd dL_law_888 ?_
        obtain ⟨c213, h⟩ := iz_some h
        refine a_sld (bn_ c213) dL_law_889 ?_
        refine a_aload_n 0 dL_law_890 rfl rfl ?_
        refine a_iload 4 dL_law_891 rfl ?_
        refine a_iconst (v := 4) dL_law_893 (by decide) ?_
        refine a_iadd dL_law_894 ?_
        obtain ⟨c214, h⟩ := iz_some h
        refine a_sld (bn_ c214) dL_law_895 ?_
        refine a_aload_n 0 dL_law_896 rfl rfl ?_
        refine a_iload 4 dL_law_897 rfl ?_
        refine a_iconst (v := 5) dL_law_899 (by decide) ?_
        refine a_iadd dL_law_900 ?_
        obtain ⟨c215, h⟩ := iz_some h
        refine a_sld (bn_ c215) dL_law_901 ?_
        refine a_aload_n 0 dL_law_902 rfl rfl ?_
        refine a_iload 4 dL_law_903 rfl ?_
        refine a_bipush (v := 6) dL_law_905 (by decide) ?_
        refine a_iadd dL_law_907 ?_
        obtain ⟨c216, h⟩ := iz_some h
        refine a_sld (bn_ c216) dL_law_908 ?_
        refine a_aload_n 3 dL_law_909 rfl rfl ?_
        obtain ⟨v219, m217, e218, h⟩ := bm_some h
        have he218 := e_X0_would (G := G) hl e218
        refine c_I he218.1 (rn_SH (n := 8) (As := [vR_ (some p13), vI_ ((xg_x G) (x21 + 1).toNatClampNeg), vI_ ((xg_x G) (x21 + 2).toNatClampNeg), vI_ ((xg_x G) (x21 + 3).toNatClampNeg), vI_ ((xg_x G) (x21 + 4).toNatClampNeg), vI_ ((xg_x G) (x21 + 5).toNatClampNeg), vI_ ((xg_x G) (x21 + 6).toNatClampNeg), vR_ (some p17)]) he218 (lw_SW q1281 q1282 q89 q1283) (by decide +kernel) rfl (by show 167 + 1 ≤ 1000; omega) (Nat.le_of_ble_eq_true rfl) (Nat.le_of_ble_eq_true rfl) dL_law_910) (fun z => (os_aS (As := [vR_ (some p13), vI_ ((xg_x G) (x21 + 1).toNatClampNeg), vI_ ((xg_x G) (x21 + 2).toNatClampNeg), vI_ ((xg_x G) (x21 + 3).toNatClampNeg), vI_ ((xg_x G) (x21 + 4).toNatClampNeg), vI_ ((xg_x G) (x21 + 5).toNatClampNeg), vI_ ((xg_x G) (x21 + 6).toNatClampNeg), vR_ (some p17)]) z).2) ?_
        refine a_istore (ls' := [(5, vI_ v219), (0, vR_ (some ((201, 0, 0)))), (1, vR_ (some p13)), (2, vR_ (some p15)), (3, vR_ (some p17)), (4, vI_ x21)]) dL_law_913 (Nat.le_of_ble_eq_true rfl) rfl ?_
        refine a_aload_n 3 dL_law_915 rfl rfl ?_
        refine a_aload_n 1 dL_law_916 rfl rfl ?_
        refine a_iload 5 dL_law_917 rfl ?_
        refine a_iconst (v := 1) dL_law_919 (by decide) ?_
        refine a_iadd dL_law_920 ?_
        obtain ⟨c220, h⟩ := iz_some h
        refine a_sld (bn_ c220) dL_law_921 ?_
        refine a_aload_n 1 dL_law_922 rfl rfl ?_
        refine a_iload 5 dL_law_923 rfl ?_
        refine a_iconst (v := 2) dL_law_925 (by decide) ?_
        refine a_iadd dL_law_926 ?_
        obtain ⟨c221, h⟩ := iz_some h
        refine a_sld (bn_ c221) dL_law_927 ?_
        refine a_aload_n 1 dL_law_928 rfl rfl ?_
        refine a_iload 5 dL_law_929 rfl ?_
        refine a_iconst (v := 3) dL_law_931 (by decide) ?_
        refine a_iadd dL_law_932 ?_
        obtain ⟨c222, h⟩ := iz_some h
        refine a_sld (bn_ c222) dL_law_933 ?_
        refine a_aload_n 1 dL_law_934 rfl rfl ?_
        refine a_iload 5 dL_law_935 rfl ?_
        refine a_iconst (v := 4) dL_law_937 (by decide) ?_
        refine a_iadd dL_law_938 ?_
        obtain ⟨c223, h⟩ := iz_some h
        refine a_sld (bn_ c223) dL_law_939 ?_
        refine a_aload_n 1 dL_law_940 rfl rfl ?_
        refine a_iload 5 dL_law_941 rfl ?_
        refine a_iconst (v := 5) dL_law_943 (by decide) ?_
        refine a_iadd dL_law_944 ?_
        obtain ⟨c224, h⟩ := iz_some h
        refine a_sld (bn_ c224) dL_law_945 ?_
        refine a_aload_n 1 dL_law_946 rfl rfl ?_
        refine a_iload 5 dL_law_947 rfl ?_
        refine a_bipush (v := 6) dL_law_949 (by decide) ?_
        refine a_iadd dL_law_951 ?_
        obtain ⟨c225, h⟩ := iz_some h
        refine a_sld (bn_ c225) dL_law_952 ?_
        obtain ⟨v228, m226, e227, h⟩ := bm_some h
        have he227 := e_X8_would (G := G) hl hf16 e227
        refine c_I he227.1 (rn_V (n := 6) (As := [vI_ ((xg_x G) (x21 + 1).toNatClampNeg), vI_ ((xg_x G) (x21 + 2).toNatClampNeg), vI_ ((xg_x G) (x21 + 3).toNatClampNeg), vI_ ((xg_x G) (x21 + 4).toNatClampNeg), vI_ ((xg_x G) (x21 + 5).toNatClampNeg), vI_ ((xg_x G) (x21 + 6).toNatClampNeg)]) kc_8 hf16 he227 (lw_V q2003 q2004 q2005 q97 q2006) (by decide +kernel) rfl (by show 5 + 1 ≤ 1000; omega) (Nat.le_of_ble_eq_true rfl) (Nat.le_of_ble_eq_true rfl) dL_law_953) (fun z => (os_av (As := [vI_ ((xg_x G) (x21 + 1).toNatClampNeg), vI_ ((xg_x G) (x21 + 2).toNatClampNeg), vI_ ((xg_x G) (x21 + 3).toNatClampNeg), vI_ ((xg_x G) (x21 + 4).toNatClampNeg), vI_ ((xg_x G) (x21 + 5).toNatClampNeg), vI_ ((xg_x G) (x21 + 6).toNatClampNeg)]) z).2.1) ?_
        refine a_istore (ls' := [(6, vI_ v228), (5, vI_ v219), (0, vR_ (some ((201, 0, 0)))), (1, vR_ (some p13)), (2, vR_ (some p15)), (3, vR_ (some p17)), (4, vI_ x21)]) dL_law_956 (Nat.le_of_ble_eq_true rfl) rfl ?_
        refine a_aload_n 4 dL_law_958 rfl rfl ?_
        obtain ⟨v231, m229, e230, h⟩ := bm_some h
        have he230 := e_X8_thrown (G := G) hl hf16 e230
        refine c_I he230.1 (rn_V (n := 0) (As := []) kc_8 hf16 he230 (lw_V q1532 q1533 q1534 q97 q1535) (by decide +kernel) rfl (by show 2 + 1 ≤ 1000; omega) (Nat.le_of_ble_eq_true rfl) (Nat.le_of_ble_eq_true rfl) dL_law_959) (fun z => (os_av (As := []) z).2.1) ?_
        refine a_iload 1 dL_law_962 rfl ?_
        refine a_icmp_eq (tgt := 969) dL_law_964 (by decide) (fun c232 => ?_) (fun c232 => ?_)
        · replace h := ifp_ c232 h
          refine a_iload 1 dL_law_969 rfl ?_
          refine a_if_ne (tgt := 986) dL_law_971 (by decide) (fun c233 => ?_) (fun c233 => ?_)
          · replace h := ifn_ c233 h
            refine a_goto (tgt := 2576) dL_law_986 (by decide) ?_
            refine a_iinc (v := x21 + 7) (ls' := [(4, vI_ (x21 + 7)), (6, vI_ v228), (5, vI_ v219), (0, vR_ (some ((201, 0, 0)))), (1, vR_ (some p13)), (2, vR_ (some p15)), (3, vR_ (some p17))]) 6 dL_law_2576 rfl rfl (Nat.le_of_ble_eq_true rfl) rfl ?_
            refine a_goto (tgt := 23) dL_law_2579 (by decide) ?_
            refine aw_pick [3, 4, 5, 6, 0] rfl ?_
            exact ih _ _ h
          · replace h := ifp_ c233 h
            refine a_aload_n 5 dL_law_974 rfl rfl ?_
            refine a_iconst (v := 0) dL_law_975 (by decide) ?_
            obtain ⟨c234, h⟩ := iz_some h
            refine a_lald hf18 (bn_ c234) dL_law_976 ?_
            refine a_iload 0 dL_law_977 rfl ?_
            refine a_i2l dL_law_979 ?_
            refine a_lcmp dL_law_980 ?_
            refine a_if_eq (tgt := 986) dL_law_981 (by decide) (fun c235 => ?_) (fun c235 => ?_)
            · replace h := ifp_ c235 h
              refine a_goto (tgt := 2576) dL_law_986 (by decide) ?_
              refine a_iinc (v := x21 + 7) (ls' := [(4, vI_ (x21 + 7)), (6, vI_ v228), (5, vI_ v219), (0, vR_ (some ((201, 0, 0)))), (1, vR_ (some p13)), (2, vR_ (some p15)), (3, vR_ (some p17))]) 6 dL_law_2576 rfl rfl (Nat.le_of_ble_eq_true rfl) rfl ?_
              refine a_goto (tgt := 23) dL_law_2579 (by decide) ?_
              refine aw_pick [3, 4, 5, 6, 0] rfl ?_
              exact ih _ _ h
            · replace h := ifn_ c235 h
              refine a_iconst (v := 0) dL_law_984 (by decide) ?_
              cases h
        · replace h := ifn_ c232 h
          refine a_iconst (v := 0) dL_law_967 (by decide) ?_
          cases h
      replace h := ifn_ c210 h
      by_cases c236 : (((xg_x G) x21.toNatClampNeg) &&& 63).toInt = 13
      · replace h := ifp_ c236 h
        refine a_tabIn (tgt := 989) dL_law_40 (by rw [c236]; decide) (by rw [c236]; decide) (by rw [c236]; rfl) (by decide) ?_
        refine a_aload_n 1 dL_law_989 rfl rfl ?_
        obtain ⟨v239, m237, e238, h⟩ := bm_some h
        have he238 := e_X1_held (G := G) hl hf14 e238
        refine c_I he238.1 (rn_V (n := 0) (As := []) kc_1 hf14 he238 (lw_V q458 q459 q460 q90 q461) (by decide +kernel) rfl (by show 169 + 1 ≤ 1000; omega) (Nat.le_of_ble_eq_true rfl) (Nat.le_of_ble_eq_true rfl) dL_law_990) (fun z => (os_av (As := []) z).2.1) ?_
        refine a_aload_n 2 dL_law_993 rfl rfl ?_
        obtain ⟨v242, m240, e241, h⟩ := bm_some h
        have he241 := e_X8_held (G := G) hl hf16 e241
        refine c_I he241.1 (rn_V (n := 0) (As := []) kc_8 hf16 he241 (lw_V q2007 q2008 q2009 q97 q2010) (by decide +kernel) rfl (by show 7 + 1 ≤ 1000; omega) (Nat.le_of_ble_eq_true rfl) (Nat.le_of_ble_eq_true rfl) dL_law_994) (fun z => (os_av (As := []) z).2.1) ?_
        refine a_icmp_eq (tgt := 2576) dL_law_997 (by decide) (fun c243 => ?_) (fun c243 => ?_)
        · replace h := ifp_ c243 h
          refine a_iinc (v := x21 + 7) (ls' := [(4, vI_ (x21 + 7)), (0, vR_ (some ((201, 0, 0)))), (1, vR_ (some p13)), (2, vR_ (some p15)), (3, vR_ (some p17))]) 4 dL_law_2576 rfl rfl (Nat.le_of_ble_eq_true rfl) rfl ?_
          refine a_goto (tgt := 23) dL_law_2579 (by decide) ?_
          refine aw_pick [1, 2, 3, 4, 0] rfl ?_
          exact ih _ _ h
        · replace h := ifn_ c243 h
          refine a_iconst (v := 0) dL_law_1000 (by decide) ?_
          cases h
      replace h := ifn_ c236 h
      by_cases c244 : (((xg_x G) x21.toNatClampNeg) &&& 63).toInt = 14
      · replace h := ifp_ c244 h
        refine a_tabIn (tgt := 1002) dL_law_40 (by rw [c244]; decide) (by rw [c244]; decide) (by rw [c244]; rfl) (by decide) ?_
        refine a_aload_n 1 dL_law_1002 rfl rfl ?_
        refine a_aload_n 0 dL_law_1003 rfl rfl ?_
        refine a_iload 4 dL_law_1004 rfl ?_
        refine a_iconst (v := 1) dL_law_1006 (by decide) ?_
        refine a_iadd dL_law_1007 ?_
        obtain ⟨c245, h⟩ := iz_some h
        refine a_sld (bn_ c245) dL_law_1008 ?_
        refine a_aload_n 3 dL_law_1009 rfl rfl ?_
        obtain ⟨v248, m246, e247, h⟩ := bm_some h
        have he247 := e_X0_freeIn (G := G) hl e247
        refine c_I he247.1 (rn_SH (n := 3) (As := [vR_ (some p13), vI_ ((xg_x G) (x21 + 1).toNatClampNeg), vR_ (some p17)]) he247 (lw_SW q1289 q1290 q89 q1291) (by decide +kernel) rfl (by show 172 + 1 ≤ 1000; omega) (Nat.le_of_ble_eq_true rfl) (Nat.le_of_ble_eq_true rfl) dL_law_1010) (fun z => (os_aS (As := [vR_ (some p13), vI_ ((xg_x G) (x21 + 1).toNatClampNeg), vR_ (some p17)]) z).2) ?_
        refine a_istore (ls' := [(5, vI_ v248), (0, vR_ (some ((201, 0, 0)))), (1, vR_ (some p13)), (2, vR_ (some p15)), (3, vR_ (some p17)), (4, vI_ x21)]) dL_law_1013 (Nat.le_of_ble_eq_true rfl) rfl ?_
        refine a_aload_n 3 dL_law_1015 rfl rfl ?_
        refine a_aload_n 1 dL_law_1016 rfl rfl ?_
        refine a_iload 5 dL_law_1017 rfl ?_
        refine a_iconst (v := 1) dL_law_1019 (by decide) ?_
        refine a_iadd dL_law_1020 ?_
        obtain ⟨c249, h⟩ := iz_some h
        refine a_sld (bn_ c249) dL_law_1021 ?_
        obtain ⟨v252, m250, e251, h⟩ := bm_some h
        have he251 := e_X8_freeIn (G := G) hl hf16 e251
        refine c_I he251.1 (rn_V (n := 1) (As := [vI_ ((xg_x G) (x21 + 1).toNatClampNeg)]) kc_8 hf16 he251 (lw_V q2011 q2012 q2013 q97 q2014) (by decide +kernel) rfl (by show 10 + 1 ≤ 1000; omega) (Nat.le_of_ble_eq_true rfl) (Nat.le_of_ble_eq_true rfl) dL_law_1022) (fun z => (os_av (As := [vI_ ((xg_x G) (x21 + 1).toNatClampNeg)]) z).2.1) ?_
        refine a_istore (ls' := [(6, vI_ v252), (5, vI_ v248), (0, vR_ (some ((201, 0, 0)))), (1, vR_ (some p13)), (2, vR_ (some p15)), (3, vR_ (some p17)), (4, vI_ x21)]) dL_law_1025 (Nat.le_of_ble_eq_true rfl) rfl ?_
        refine a_aload_n 4 dL_law_1027 rfl rfl ?_
        obtain ⟨v255, m253, e254, h⟩ := bm_some h
        have he254 := e_X8_thrown (G := G) hl hf16 e254
        refine c_I he254.1 (rn_V (n := 0) (As := []) kc_8 hf16 he254 (lw_V q1532 q1533 q1534 q97 q1535) (by decide +kernel) rfl (by show 2 + 1 ≤ 1000; omega) (Nat.le_of_ble_eq_true rfl) (Nat.le_of_ble_eq_true rfl) dL_law_1028) (fun z => (os_av (As := []) z).2.1) ?_
        refine a_iload 1 dL_law_1031 rfl ?_
        refine a_icmp_eq (tgt := 1038) dL_law_1033 (by decide) (fun c256 => ?_) (fun c256 => ?_)
        · replace h := ifp_ c256 h
          refine a_iload 1 dL_law_1038 rfl ?_
          refine a_if_ne (tgt := 1055) dL_law_1040 (by decide) (fun c257 => ?_) (fun c257 => ?_)
          · replace h := ifn_ c257 h
            refine a_goto (tgt := 2576) dL_law_1055 (by decide) ?_
            refine a_iinc (v := x21 + 7) (ls' := [(4, vI_ (x21 + 7)), (6, vI_ v252), (5, vI_ v248), (0, vR_ (some ((201, 0, 0)))), (1, vR_ (some p13)), (2, vR_ (some p15)), (3, vR_ (some p17))]) 6 dL_law_2576 rfl rfl (Nat.le_of_ble_eq_true rfl) rfl ?_
            refine a_goto (tgt := 23) dL_law_2579 (by decide) ?_
            refine aw_pick [3, 4, 5, 6, 0] rfl ?_
            exact ih _ _ h
          · replace h := ifp_ c257 h
            refine a_aload_n 5 dL_law_1043 rfl rfl ?_
            refine a_iconst (v := 0) dL_law_1044 (by decide) ?_
            obtain ⟨c258, h⟩ := iz_some h
            refine a_lald hf18 (bn_ c258) dL_law_1045 ?_
            refine a_iload 0 dL_law_1046 rfl ?_
            refine a_i2l dL_law_1048 ?_
            refine a_lcmp dL_law_1049 ?_
            refine a_if_eq (tgt := 1055) dL_law_1050 (by decide) (fun c259 => ?_) (fun c259 => ?_)
            · replace h := ifp_ c259 h
              refine a_goto (tgt := 2576) dL_law_1055 (by decide) ?_
              refine a_iinc (v := x21 + 7) (ls' := [(4, vI_ (x21 + 7)), (6, vI_ v252), (5, vI_ v248), (0, vR_ (some ((201, 0, 0)))), (1, vR_ (some p13)), (2, vR_ (some p15)), (3, vR_ (some p17))]) 6 dL_law_2576 rfl rfl (Nat.le_of_ble_eq_true rfl) rfl ?_
              refine a_goto (tgt := 23) dL_law_2579 (by decide) ?_
              refine aw_pick [3, 4, 5, 6, 0] rfl ?_
              exact ih _ _ h
            · replace h := ifn_ c259 h
              refine a_iconst (v := 0) dL_law_1053 (by decide) ?_
              cases h
        · replace h := ifn_ c256 h
          refine a_iconst (v := 0) dL_law_1036 (by decide) ?_
          cases h
      replace h := ifn_ c244 h
      by_cases c260 : (((xg_x G) x21.toNatClampNeg) &&& 63).toInt = 15
      · replace h := ifp_ c260 h
        refine a_tabIn (tgt := 1058) dL_law_40 (by rw [c260]; decide) (by rw [c260]; decide) (by rw [c260]; rfl) (by decide) ?_
        refine a_aload_n 1 dL_law_1058 rfl rfl ?_
        refine a_aload_n 0 dL_law_1059 rfl rfl ?_
        refine a_iload 4 dL_law_1060 rfl ?_
        refine a_iconst (v := 1) dL_law_1062 (by decide) ?_
        refine a_iadd dL_law_1063 ?_
        obtain ⟨c261, h⟩ := iz_some h
        refine a_sld (bn_ c261) dL_law_1064 ?_
        refine a_aload_n 3 dL_law_1065 rfl rfl ?_
        obtain ⟨v264, m262, e263, h⟩ := bm_some h
        have he263 := e_X0_otherwise (G := G) hl e263
        refine c_I he263.1 (rn_SH (n := 3) (As := [vR_ (some p13), vI_ ((xg_x G) (x21 + 1).toNatClampNeg), vR_ (some p17)]) he263 (lw_SW q1305 q1306 q89 q1307) (by decide +kernel) rfl (by show 172 + 1 ≤ 1000; omega) (Nat.le_of_ble_eq_true rfl) (Nat.le_of_ble_eq_true rfl) dL_law_1066) (fun z => (os_aS (As := [vR_ (some p13), vI_ ((xg_x G) (x21 + 1).toNatClampNeg), vR_ (some p17)]) z).2) ?_
        refine a_istore (ls' := [(5, vI_ v264), (0, vR_ (some ((201, 0, 0)))), (1, vR_ (some p13)), (2, vR_ (some p15)), (3, vR_ (some p17)), (4, vI_ x21)]) dL_law_1069 (Nat.le_of_ble_eq_true rfl) rfl ?_
        refine a_aload_n 3 dL_law_1071 rfl rfl ?_
        refine a_aload_n 1 dL_law_1072 rfl rfl ?_
        refine a_iload 5 dL_law_1073 rfl ?_
        refine a_iconst (v := 1) dL_law_1075 (by decide) ?_
        refine a_iadd dL_law_1076 ?_
        obtain ⟨c265, h⟩ := iz_some h
        refine a_sld (bn_ c265) dL_law_1077 ?_
        obtain ⟨v268, m266, e267, h⟩ := bm_some h
        have he267 := e_X8_otherwise (G := G) hl hf16 e267
        refine c_I he267.1 (rn_V (n := 1) (As := [vI_ ((xg_x G) (x21 + 1).toNatClampNeg)]) kc_8 hf16 he267 (lw_V q2019 q2020 q2021 q97 q2022) (by decide +kernel) rfl (by show 10 + 1 ≤ 1000; omega) (Nat.le_of_ble_eq_true rfl) (Nat.le_of_ble_eq_true rfl) dL_law_1078) (fun z => (os_av (As := [vI_ ((xg_x G) (x21 + 1).toNatClampNeg)]) z).2.1) ?_
        refine a_istore (ls' := [(6, vI_ v268), (5, vI_ v264), (0, vR_ (some ((201, 0, 0)))), (1, vR_ (some p13)), (2, vR_ (some p15)), (3, vR_ (some p17)), (4, vI_ x21)]) dL_law_1081 (Nat.le_of_ble_eq_true rfl) rfl ?_
        refine a_aload_n 4 dL_law_1083 rfl rfl ?_
        obtain ⟨v271, m269, e270, h⟩ := bm_some h
        have he270 := e_X8_thrown (G := G) hl hf16 e270
        refine c_I he270.1 (rn_V (n := 0) (As := []) kc_8 hf16 he270 (lw_V q1532 q1533 q1534 q97 q1535) (by decide +kernel) rfl (by show 2 + 1 ≤ 1000; omega) (Nat.le_of_ble_eq_true rfl) (Nat.le_of_ble_eq_true rfl) dL_law_1084) (fun z => (os_av (As := []) z).2.1) ?_
        refine a_iload 1 dL_law_1087 rfl ?_
        refine a_icmp_eq (tgt := 1094) dL_law_1089 (by decide) (fun c272 => ?_) (fun c272 => ?_)
        · replace h := ifp_ c272 h
          refine a_iload 1 dL_law_1094 rfl ?_
          refine a_if_ne (tgt := 1111) dL_law_1096 (by decide) (fun c273 => ?_) (fun c273 => ?_)
          · replace h := ifn_ c273 h
            refine a_goto (tgt := 2576) dL_law_1111 (by decide) ?_
            refine a_iinc (v := x21 + 7) (ls' := [(4, vI_ (x21 + 7)), (6, vI_ v268), (5, vI_ v264), (0, vR_ (some ((201, 0, 0)))), (1, vR_ (some p13)), (2, vR_ (some p15)), (3, vR_ (some p17))]) 6 dL_law_2576 rfl rfl (Nat.le_of_ble_eq_true rfl) rfl ?_
            refine a_goto (tgt := 23) dL_law_2579 (by decide) ?_
            refine aw_pick [3, 4, 5, 6, 0] rfl ?_
            exact ih _ _ h
          · replace h := ifp_ c273 h
            refine a_aload_n 5 dL_law_1099 rfl rfl ?_
            refine a_iconst (v := 0) dL_law_1100 (by decide) ?_
            obtain ⟨c274, h⟩ := iz_some h
            refine a_lald hf18 (bn_ c274) dL_law_1101 ?_
            refine a_iload 0 dL_law_1102 rfl ?_
            refine a_i2l dL_law_1104 ?_
            refine a_lcmp dL_law_1105 ?_
            refine a_if_eq (tgt := 1111) dL_law_1106 (by decide) (fun c275 => ?_) (fun c275 => ?_)
            · replace h := ifp_ c275 h
              refine a_goto (tgt := 2576) dL_law_1111 (by decide) ?_
              refine a_iinc (v := x21 + 7) (ls' := [(4, vI_ (x21 + 7)), (6, vI_ v268), (5, vI_ v264), (0, vR_ (some ((201, 0, 0)))), (1, vR_ (some p13)), (2, vR_ (some p15)), (3, vR_ (some p17))]) 6 dL_law_2576 rfl rfl (Nat.le_of_ble_eq_true rfl) rfl ?_
              refine a_goto (tgt := 23) dL_law_2579 (by decide) ?_
              refine aw_pick [3, 4, 5, 6, 0] rfl ?_
              exact ih _ _ h
            · replace h := ifn_ c275 h
              refine a_iconst (v := 0) dL_law_1109 (by decide) ?_
              cases h
        · replace h := ifn_ c272 h
          refine a_iconst (v := 0) dL_law_1092 (by decide) ?_
          cases h
      replace h := ifn_ c260 h
      by_cases c276 : (((xg_x G) x21.toNatClampNeg) &&& 63).toInt = 16
      · replace h := ifp_ c276 h
        refine a_tabIn (tgt := 1114) dL_law_40 (by rw [c276]; decide) (by rw [c276]; decide) (by rw [c276]; rfl) (by decide) ?_
        refine a_aload_n 1 dL_law_1114 rfl rfl ?_
        refine a_aload_n 0 dL_law_1115 rfl rfl ?_
        refine a_iload 4 dL_law_1116 rfl ?_
        refine a_iconst (v := 1) dL_law_1118 (by decide) ?_
        refine a_iadd dL_law_1119 ?_
        obtain ⟨c277, h⟩ := iz_some h
        refine a_sld (bn_ c277) dL_law_1120 ?_
        refine a_aload_n 0 dL_law_1121 rfl rfl ?_
        refine a_iload 4 dL_law_1122 rfl ?_
        refine a_iconst (v := 2) dL_law_1124 (by decide) ?_
        refine a_iadd dL_law_1125 ?_
        obtain ⟨c278, h⟩ := iz_some h
        refine a_sld (bn_ c278) dL_law_1126 ?_
        refine a_aload_n 3 dL_law_1127 rfl rfl ?_
        obtain ⟨v281, m279, e280, h⟩ := bm_some h
        have he280 := e_X0_ahead (G := G) hl e280
        refine c_I he280.1 (rn_SH (n := 4) (As := [vR_ (some p13), vI_ ((xg_x G) (x21 + 1).toNatClampNeg), vI_ ((xg_x G) (x21 + 2).toNatClampNeg), vR_ (some p17)]) he280 (lw_SW q1312 q1313 q89 q1314) (by decide +kernel) rfl (by show 172 + 1 ≤ 1000; omega) (Nat.le_of_ble_eq_true rfl) (Nat.le_of_ble_eq_true rfl) dL_law_1128) (fun z => (os_aS (As := [vR_ (some p13), vI_ ((xg_x G) (x21 + 1).toNatClampNeg), vI_ ((xg_x G) (x21 + 2).toNatClampNeg), vR_ (some p17)]) z).2) ?_
        refine a_istore (ls' := [(5, vI_ v281), (0, vR_ (some ((201, 0, 0)))), (1, vR_ (some p13)), (2, vR_ (some p15)), (3, vR_ (some p17)), (4, vI_ x21)]) dL_law_1131 (Nat.le_of_ble_eq_true rfl) rfl ?_
        refine a_aload_n 3 dL_law_1133 rfl rfl ?_
        refine a_aload_n 1 dL_law_1134 rfl rfl ?_
        refine a_iload 5 dL_law_1135 rfl ?_
        refine a_iconst (v := 1) dL_law_1137 (by decide) ?_
        refine a_iadd dL_law_1138 ?_
        obtain ⟨c282, h⟩ := iz_some h
        refine a_sld (bn_ c282) dL_law_1139 ?_
        refine a_aload_n 1 dL_law_1140 rfl rfl ?_
        refine a_iload 5 dL_law_1141 rfl ?_
        refine a_iconst (v := 2) dL_law_1143 (by decide) ?_
        refine a_iadd dL_law_1144 ?_
        obtain ⟨c283, h⟩ := iz_some h
        refine a_sld (bn_ c283) dL_law_1145 ?_
        obtain ⟨v286, m284, e285, h⟩ := bm_some h
        have he285 := e_X8_ahead (G := G) hl hf16 e285
        refine c_I he285.1 (rn_V (n := 2) (As := [vI_ ((xg_x G) (x21 + 1).toNatClampNeg), vI_ ((xg_x G) (x21 + 2).toNatClampNeg)]) kc_8 hf16 he285 (lw_V q2023 q2024 q2025 q97 q2026) (by decide +kernel) rfl (by show 9 + 1 ≤ 1000; omega) (Nat.le_of_ble_eq_true rfl) (Nat.le_of_ble_eq_true rfl) dL_law_1146) (fun z => (os_av (As := [vI_ ((xg_x G) (x21 + 1).toNatClampNeg), vI_ ((xg_x G) (x21 + 2).toNatClampNeg)]) z).2.1) ?_
        refine a_istore (ls' := [(6, vI_ v286), (5, vI_ v281), (0, vR_ (some ((201, 0, 0)))), (1, vR_ (some p13)), (2, vR_ (some p15)), (3, vR_ (some p17)), (4, vI_ x21)]) dL_law_1149 (Nat.le_of_ble_eq_true rfl) rfl ?_
        refine a_aload_n 4 dL_law_1151 rfl rfl ?_
        obtain ⟨v289, m287, e288, h⟩ := bm_some h
        have he288 := e_X8_thrown (G := G) hl hf16 e288
        refine c_I he288.1 (rn_V (n := 0) (As := []) kc_8 hf16 he288 (lw_V q1532 q1533 q1534 q97 q1535) (by decide +kernel) rfl (by show 2 + 1 ≤ 1000; omega) (Nat.le_of_ble_eq_true rfl) (Nat.le_of_ble_eq_true rfl) dL_law_1152) (fun z => (os_av (As := []) z).2.1) ?_
        refine a_iload 1 dL_law_1155 rfl ?_
        refine a_icmp_eq (tgt := 1162) dL_law_1157 (by decide) (fun c290 => ?_) (fun c290 => ?_)
        · replace h := ifp_ c290 h
          refine a_iload 1 dL_law_1162 rfl ?_
          refine a_if_ne (tgt := 1179) dL_law_1164 (by decide) (fun c291 => ?_) (fun c291 => ?_)
          · replace h := ifn_ c291 h
            refine a_goto (tgt := 2576) dL_law_1179 (by decide) ?_
            refine a_iinc (v := x21 + 7) (ls' := [(4, vI_ (x21 + 7)), (6, vI_ v286), (5, vI_ v281), (0, vR_ (some ((201, 0, 0)))), (1, vR_ (some p13)), (2, vR_ (some p15)), (3, vR_ (some p17))]) 6 dL_law_2576 rfl rfl (Nat.le_of_ble_eq_true rfl) rfl ?_
            refine a_goto (tgt := 23) dL_law_2579 (by decide) ?_
            refine aw_pick [3, 4, 5, 6, 0] rfl ?_
            exact ih _ _ h
          · replace h := ifp_ c291 h
            refine a_aload_n 5 dL_law_1167 rfl rfl ?_
            refine a_iconst (v := 0) dL_law_1168 (by decide) ?_
            obtain ⟨c292, h⟩ := iz_some h
            refine a_lald hf18 (bn_ c292) dL_law_1169 ?_
            refine a_iload 0 dL_law_1170 rfl ?_
            refine a_i2l dL_law_1172 ?_
            refine a_lcmp dL_law_1173 ?_
            refine a_if_eq (tgt := 1179) dL_law_1174 (by decide) (fun c293 => ?_) (fun c293 => ?_)
            · replace h := ifp_ c293 h
              refine a_goto (tgt := 2576) dL_law_1179 (by decide) ?_
              refine a_iinc (v := x21 + 7) (ls' := [(4, vI_ (x21 + 7)), (6, vI_ v286), (5, vI_ v281), (0, vR_ (some ((201, 0, 0)))), (1, vR_ (some p13)), (2, vR_ (some p15)), (3, vR_ (some p17))]) 6 dL_law_2576 rfl rfl (Nat.le_of_ble_eq_true rfl) rfl ?_
              refine a_goto (tgt := 23) dL_law_2579 (by decide) ?_
              refine aw_pick [3, 4, 5, 6, 0] rfl ?_
              exact ih _ _ h
            · replace h := ifn_ c293 h
              refine a_iconst (v := 0) dL_law_1177 (by decide) ?_
              cases h
        · replace h := ifn_ c290 h
          refine a_iconst (v := 0) dL_law_1160 (by decide) ?_
          cases h
      replace h := ifn_ c276 h
      by_cases c294 : (((xg_x G) x21.toNatClampNeg) &&& 63).toInt = 17
      · replace h := ifp_ c294 h
        refine a_tabIn (tgt := 1182) dL_law_40 (by rw [c294]; decide) (by rw [c294]; decide) (by rw [c294]; rfl) (by decide) ?_
        refine a_aload_n 1 dL_law_1182 rfl rfl ?_
        refine a_aload_n 0 dL_law_1183 rfl rfl ?_
        refine a_iload 4 dL_law_1184 rfl ?_
        refine a_iconst (v := 1) dL_law_1186 (by decide) ?_
        refine a_iadd dL_law_1187 ?_
        obtain ⟨c295, h⟩ := iz_some h
        refine a_sld (bn_ c295) dL_law_1188 ?_
        refine a_aload_n 0 dL_law_1189 rfl rfl ?_
        refine a_iload 4 dL_law_1190 rfl ?_
        refine a_iconst (v := 2) dL_law_1192 (by decide) ?_
        refine a_iadd dL_law_1193 ?_
        obtain ⟨c296, h⟩ := iz_some h
        refine a_sld (bn_ c296) dL_law_1194 ?_
        refine a_aload_n 3 dL_law_1195 rfl rfl ?_
        obtain ⟨v299, m297, e298, h⟩ := bm_some h
        have he298 := e_X0_gives (G := G) hl e298
        refine c_I he298.1 (rn_SH (n := 4) (As := [vR_ (some p13), vI_ ((xg_x G) (x21 + 1).toNatClampNeg), vI_ ((xg_x G) (x21 + 2).toNatClampNeg), vR_ (some p17)]) he298 (lw_SW q1326 q1327 q89 q1328) (by decide +kernel) rfl (by show 172 + 1 ≤ 1000; omega) (Nat.le_of_ble_eq_true rfl) (Nat.le_of_ble_eq_true rfl) dL_law_1196) (fun z => (os_aS (As := [vR_ (some p13), vI_ ((xg_x G) (x21 + 1).toNatClampNeg), vI_ ((xg_x G) (x21 + 2).toNatClampNeg), vR_ (some p17)]) z).2) ?_
        refine a_istore (ls' := [(5, vI_ v299), (0, vR_ (some ((201, 0, 0)))), (1, vR_ (some p13)), (2, vR_ (some p15)), (3, vR_ (some p17)), (4, vI_ x21)]) dL_law_1199 (Nat.le_of_ble_eq_true rfl) rfl ?_
        refine a_aload_n 3 dL_law_1201 rfl rfl ?_
        refine a_aload_n 1 dL_law_1202 rfl rfl ?_
        refine a_iload 5 dL_law_1203 rfl ?_
        refine a_iconst (v := 1) dL_law_1205 (by decide) ?_
        refine a_iadd dL_law_1206 ?_
        obtain ⟨c300, h⟩ := iz_some h
        refine a_sld (bn_ c300) dL_law_1207 ?_
        refine a_aload_n 1 dL_law_1208 rfl rfl ?_
        refine a_iload 5 dL_law_1209 rfl ?_
        refine a_iconst (v := 2) dL_law_1211 (by decide) ?_
        refine a_iadd dL_law_1212 ?_
        obtain ⟨c301, h⟩ := iz_some h
        refine a_sld (bn_ c301) dL_law_1213 ?_
        obtain ⟨v304, m302, e303, h⟩ := bm_some h
        have he303 := e_X8_gives (G := G) hl hf16 e303
        refine c_I he303.1 (rn_V (n := 2) (As := [vI_ ((xg_x G) (x21 + 1).toNatClampNeg), vI_ ((xg_x G) (x21 + 2).toNatClampNeg)]) kc_8 hf16 he303 (lw_V q2027 q2028 q2029 q97 q2030) (by decide +kernel) rfl (by show 9 + 1 ≤ 1000; omega) (Nat.le_of_ble_eq_true rfl) (Nat.le_of_ble_eq_true rfl) dL_law_1214) (fun z => (os_av (As := [vI_ ((xg_x G) (x21 + 1).toNatClampNeg), vI_ ((xg_x G) (x21 + 2).toNatClampNeg)]) z).2.1) ?_
        refine a_istore (ls' := [(6, vI_ v304), (5, vI_ v299), (0, vR_ (some ((201, 0, 0)))), (1, vR_ (some p13)), (2, vR_ (some p15)), (3, vR_ (some p17)), (4, vI_ x21)]) dL_law_1217 (Nat.le_of_ble_eq_true rfl) rfl ?_
        refine a_aload_n 4 dL_law_1219 rfl rfl ?_
        obtain ⟨v307, m305, e306, h⟩ := bm_some h
        have he306 := e_X8_thrown (G := G) hl hf16 e306
        refine c_I he306.1 (rn_V (n := 0) (As := []) kc_8 hf16 he306 (lw_V q1532 q1533 q1534 q97 q1535) (by decide +kernel) rfl (by show 2 + 1 ≤ 1000; omega) (Nat.le_of_ble_eq_true rfl) (Nat.le_of_ble_eq_true rfl) dL_law_1220) (fun z => (os_av (As := []) z).2.1) ?_
        refine a_iload 1 dL_law_1223 rfl ?_
        refine a_icmp_eq (tgt := 1230) dL_law_1225 (by decide) (fun c308 => ?_) (fun c308 => ?_)
        · replace h := ifp_ c308 h
          refine a_iload 1 dL_law_1230 rfl ?_
          refine a_if_ne (tgt := 1247) dL_law_1232 (by decide) (fun c309 => ?_) (fun c309 => ?_)
          · replace h := ifn_ c309 h
            refine a_goto (tgt := 2576) dL_law_1247 (by decide) ?_
            refine a_iinc (v := x21 + 7) (ls' := [(4, vI_ (x21 + 7)), (6, vI_ v304), (5, vI_ v299), (0, vR_ (some ((201, 0, 0)))), (1, vR_ (some p13)), (2, vR_ (some p15)), (3, vR_ (some p17))]) 6 dL_law_2576 rfl rfl (Nat.le_of_ble_eq_true rfl) rfl ?_
            refine a_goto (tgt := 23) dL_law_2579 (by decide) ?_
            refine aw_pick [3, 4, 5, 6, 0] rfl ?_
            exact ih _ _ h
          · replace h := ifp_ c309 h
            refine a_aload_n 5 dL_law_1235 rfl rfl ?_
            refine a_iconst (v := 0) dL_law_1236 (by decide) ?_
            obtain ⟨c310, h⟩ := iz_some h
            refine a_lald hf18 (bn_ c310) dL_law_1237 ?_
            refine a_iload 0 dL_law_1238 rfl ?_
            refine a_i2l dL_law_1240 ?_
            refine a_lcmp dL_law_1241 ?_
            refine a_if_eq (tgt := 1247) dL_law_1242 (by decide) (fun c311 => ?_) (fun c311 => ?_)
            · replace h := ifp_ c311 h
              refine a_goto (tgt := 2576) dL_law_1247 (by decide) ?_
              refine a_iinc (v := x21 + 7) (ls' := [(4, vI_ (x21 + 7)), (6, vI_ v304), (5, vI_ v299), (0, vR_ (some ((201, 0, 0)))), (1, vR_ (some p13)), (2, vR_ (some p15)), (3, vR_ (some p17))]) 6 dL_law_2576 rfl rfl (Nat.le_of_ble_eq_true rfl) rfl ?_
              refine a_goto (tgt := 23) dL_law_2579 (by decide) ?_
              refine aw_pick [3, 4, 5, 6, 0] rfl ?_
              exact ih _ _ h
            · replace h := ifn_ c311 h
              refine a_iconst (v := 0) dL_law_1245 (by decide) ?_
              cases h
        · replace h := ifn_ c308 h
          refine a_iconst (v := 0) dL_law_1228 (by decide) ?_
          cases h
      replace h := ifn_ c294 h
      by_cases c312 : (((xg_x G) x21.toNatClampNeg) &&& 63).toInt = 18
      · replace h := ifp_ c312 h
        refine a_tabIn (tgt := 1250) dL_law_40 (by rw [c312]; decide) (by rw [c312]; decide) (by rw [c312]; rfl) (by decide) ?_
        refine a_aload_n 1 dL_law_1250 rfl rfl ?_
        refine a_aload_n 0 dL_law_1251 rfl rfl ?_
        refine a_iload 4 dL_law_1252 rfl ?_
        refine a_iconst (v := 1) dL_law_1254 (by decide) ?_
        refine a_iadd dL_law_1255 ?_
        obtain ⟨c313, h⟩ := iz_some h
        refine a_sld (bn_ c313) dL_law_1256 ?_
        refine a_aload_n 3 dL_law_1257 rfl rfl ?_
        obtain ⟨v316, m314, e315, h⟩ := bm_some h
        have he315 := e_X0_best (G := G) hl e315
        refine c_I he315.1 (rn_SH (n := 3) (As := [vR_ (some p13), vI_ ((xg_x G) (x21 + 1).toNatClampNeg), vR_ (some p17)]) he315 (lw_SW q1337 q1338 q89 q1339) (by decide +kernel) rfl (by show 186 + 1 ≤ 1000; omega) (Nat.le_of_ble_eq_true rfl) (Nat.le_of_ble_eq_true rfl) dL_law_1258) (fun z => (os_aS (As := [vR_ (some p13), vI_ ((xg_x G) (x21 + 1).toNatClampNeg), vR_ (some p17)]) z).2) ?_
        refine a_istore (ls' := [(5, vI_ v316), (0, vR_ (some ((201, 0, 0)))), (1, vR_ (some p13)), (2, vR_ (some p15)), (3, vR_ (some p17)), (4, vI_ x21)]) dL_law_1261 (Nat.le_of_ble_eq_true rfl) rfl ?_
        refine a_aload_n 3 dL_law_1263 rfl rfl ?_
        refine a_aload_n 1 dL_law_1264 rfl rfl ?_
        refine a_iload 5 dL_law_1265 rfl ?_
        refine a_iconst (v := 1) dL_law_1267 (by decide) ?_
        refine a_iadd dL_law_1268 ?_
        obtain ⟨c317, h⟩ := iz_some h
        refine a_sld (bn_ c317) dL_law_1269 ?_
        obtain ⟨v320, m318, e319, h⟩ := bm_some h
        have he319 := e_X8_best (G := G) hl hf16 e319
        refine c_I he319.1 (rn_V (n := 1) (As := [vI_ ((xg_x G) (x21 + 1).toNatClampNeg)]) kc_8 hf16 he319 (lw_V q2035 q2036 q2037 q97 q2038) (by decide +kernel) rfl (by show 18 + 1 ≤ 1000; omega) (Nat.le_of_ble_eq_true rfl) (Nat.le_of_ble_eq_true rfl) dL_law_1270) (fun z => (os_av (As := [vI_ ((xg_x G) (x21 + 1).toNatClampNeg)]) z).2.1) ?_
        refine a_istore (ls' := [(6, vI_ v320), (5, vI_ v316), (0, vR_ (some ((201, 0, 0)))), (1, vR_ (some p13)), (2, vR_ (some p15)), (3, vR_ (some p17)), (4, vI_ x21)]) dL_law_1273 (Nat.le_of_ble_eq_true rfl) rfl ?_
        refine a_aload_n 4 dL_law_1275 rfl rfl ?_
        obtain ⟨v323, m321, e322, h⟩ := bm_some h
        have he322 := e_X8_thrown (G := G) hl hf16 e322
        refine c_I he322.1 (rn_V (n := 0) (As := []) kc_8 hf16 he322 (lw_V q1532 q1533 q1534 q97 q1535) (by decide +kernel) rfl (by show 2 + 1 ≤ 1000; omega) (Nat.le_of_ble_eq_true rfl) (Nat.le_of_ble_eq_true rfl) dL_law_1276) (fun z => (os_av (As := []) z).2.1) ?_
        refine a_iload 1 dL_law_1279 rfl ?_
        refine a_icmp_eq (tgt := 1286) dL_law_1281 (by decide) (fun c324 => ?_) (fun c324 => ?_)
        · replace h := ifp_ c324 h
          refine a_iload 1 dL_law_1286 rfl ?_
          refine a_if_ne (tgt := 1303) dL_law_1288 (by decide) (fun c325 => ?_) (fun c325 => ?_)
          · replace h := ifn_ c325 h
            refine a_goto (tgt := 2576) dL_law_1303 (by decide) ?_
            refine a_iinc (v := x21 + 7) (ls' := [(4, vI_ (x21 + 7)), (6, vI_ v320), (5, vI_ v316), (0, vR_ (some ((201, 0, 0)))), (1, vR_ (some p13)), (2, vR_ (some p15)), (3, vR_ (some p17))]) 6 dL_law_2576 rfl rfl (Nat.le_of_ble_eq_true rfl) rfl ?_
            refine a_goto (tgt := 23) dL_law_2579 (by decide) ?_
            refine aw_pick [3, 4, 5, 6, 0] rfl ?_
            exact ih _ _ h
          · replace h := ifp_ c325 h
            refine a_aload_n 5 dL_law_1291 rfl rfl ?_
            refine a_iconst (v := 0) dL_law_1292 (by decide) ?_
            obtain ⟨c326, h⟩ := iz_some h
            refine a_lald hf18 (bn_ c326) dL_law_1293 ?_
            refine a_iload 0 dL_law_1294 rfl ?_
            refine a_i2l dL_law_1296 ?_
            refine a_lcmp dL_law_1297 ?_
            refine a_if_eq (tgt := 1303) dL_law_1298 (by decide) (fun c327 => ?_) (fun c327 => ?_)
            · replace h := ifp_ c327 h
              refine a_goto (tgt := 2576) dL_law_1303 (by decide) ?_
              refine a_iinc (v := x21 + 7) (ls' := [(4, vI_ (x21 + 7)), (6, vI_ v320), (5, vI_ v316), (0, vR_ (some ((201, 0, 0)))), (1, vR_ (some p13)), (2, vR_ (some p15)), (3, vR_ (some p17))]) 6 dL_law_2576 rfl rfl (Nat.le_of_ble_eq_true rfl) rfl ?_
              refine a_goto (tgt := 23) dL_law_2579 (by decide) ?_
              refine aw_pick [3, 4, 5, 6, 0] rfl ?_
              exact ih _ _ h
            · replace h := ifn_ c327 h
              refine a_iconst (v := 0) dL_law_1301 (by decide) ?_
              cases h
        · replace h := ifn_ c324 h
          refine a_iconst (v := 0) dL_law_1284 (by decide) ?_
          cases h
      replace h := ifn_ c312 h
      by_cases c328 : (((xg_x G) x21.toNatClampNeg) &&& 63).toInt = 19
      · replace h := ifp_ c328 h
        refine a_tabIn (tgt := 1306) dL_law_40 (by rw [c328]; decide) (by rw [c328]; decide) (by rw [c328]; rfl) (by decide) ?_
        refine a_aload_n 1 dL_law_1306 rfl rfl ?_
        refine a_aload_n 0 dL_law_1307 rfl rfl ?_
        refine a_iload 4 dL_law_1308 rfl ?_
        refine a_iconst (v := 1) dL_law_1310 (by decide) ?_
        refine a_iadd dL_law_1311 ?_
        obtain ⟨c329, h⟩ := iz_some h
        refine a_sld (bn_ c329) dL_law_1312 ?_
        refine a_aload_n 3 dL_law_1313 rfl rfl ?_
        obtain ⟨v332, m330, e331, h⟩ := bm_some h
        have he331 := e_X0_bestFor (G := G) hl e331
        refine c_I he331.1 (rn_SH (n := 3) (As := [vR_ (some p13), vI_ ((xg_x G) (x21 + 1).toNatClampNeg), vR_ (some p17)]) he331 (lw_SW q1369 q1370 q89 q1371) (by decide +kernel) rfl (by show 186 + 1 ≤ 1000; omega) (Nat.le_of_ble_eq_true rfl) (Nat.le_of_ble_eq_true rfl) dL_law_1314) (fun z => (os_aS (As := [vR_ (some p13), vI_ ((xg_x G) (x21 + 1).toNatClampNeg), vR_ (some p17)]) z).2) ?_
        refine a_istore (ls' := [(5, vI_ v332), (0, vR_ (some ((201, 0, 0)))), (1, vR_ (some p13)), (2, vR_ (some p15)), (3, vR_ (some p17)), (4, vI_ x21)]) dL_law_1317 (Nat.le_of_ble_eq_true rfl) rfl ?_
        refine a_aload_n 3 dL_law_1319 rfl rfl ?_
        refine a_aload_n 1 dL_law_1320 rfl rfl ?_
        refine a_iload 5 dL_law_1321 rfl ?_
        refine a_iconst (v := 1) dL_law_1323 (by decide) ?_
        refine a_iadd dL_law_1324 ?_
        obtain ⟨c333, h⟩ := iz_some h
        refine a_sld (bn_ c333) dL_law_1325 ?_
        obtain ⟨v336, m334, e335, h⟩ := bm_some h
        have he335 := e_X8_bestFor (G := G) hl hf16 e335
        refine c_I he335.1 (rn_V (n := 1) (As := [vI_ ((xg_x G) (x21 + 1).toNatClampNeg)]) kc_8 hf16 he335 (lw_V q2051 q2052 q2053 q97 q2054) (by decide +kernel) rfl (by show 18 + 1 ≤ 1000; omega) (Nat.le_of_ble_eq_true rfl) (Nat.le_of_ble_eq_true rfl) dL_law_1326) (fun z => (os_av (As := [vI_ ((xg_x G) (x21 + 1).toNatClampNeg)]) z).2.1) ?_
        refine a_istore (ls' := [(6, vI_ v336), (5, vI_ v332), (0, vR_ (some ((201, 0, 0)))), (1, vR_ (some p13)), (2, vR_ (some p15)), (3, vR_ (some p17)), (4, vI_ x21)]) dL_law_1329 (Nat.le_of_ble_eq_true rfl) rfl ?_
        refine a_aload_n 4 dL_law_1331 rfl rfl ?_
        obtain ⟨v339, m337, e338, h⟩ := bm_some h
        have he338 := e_X8_thrown (G := G) hl hf16 e338
        refine c_I he338.1 (rn_V (n := 0) (As := []) kc_8 hf16 he338 (lw_V q1532 q1533 q1534 q97 q1535) (by decide +kernel) rfl (by show 2 + 1 ≤ 1000; omega) (Nat.le_of_ble_eq_true rfl) (Nat.le_of_ble_eq_true rfl) dL_law_1332) (fun z => (os_av (As := []) z).2.1) ?_
        refine a_iload 1 dL_law_1335 rfl ?_
        refine a_icmp_eq (tgt := 1342) dL_law_1337 (by decide) (fun c340 => ?_) (fun c340 => ?_)
        · replace h := ifp_ c340 h
          refine a_iload 1 dL_law_1342 rfl ?_
          refine a_if_ne (tgt := 1359) dL_law_1344 (by decide) (fun c341 => ?_) (fun c341 => ?_)
          · replace h := ifn_ c341 h
            refine a_goto (tgt := 2576) dL_law_1359 (by decide) ?_
            refine a_iinc (v := x21 + 7) (ls' := [(4, vI_ (x21 + 7)), (6, vI_ v336), (5, vI_ v332), (0, vR_ (some ((201, 0, 0)))), (1, vR_ (some p13)), (2, vR_ (some p15)), (3, vR_ (some p17))]) 6 dL_law_2576 rfl rfl (Nat.le_of_ble_eq_true rfl) rfl ?_
            refine a_goto (tgt := 23) dL_law_2579 (by decide) ?_
            refine aw_pick [3, 4, 5, 6, 0] rfl ?_
            exact ih _ _ h
          · replace h := ifp_ c341 h
            refine a_aload_n 5 dL_law_1347 rfl rfl ?_
            refine a_iconst (v := 0) dL_law_1348 (by decide) ?_
            obtain ⟨c342, h⟩ := iz_some h
            refine a_lald hf18 (bn_ c342) dL_law_1349 ?_
            refine a_iload 0 dL_law_1350 rfl ?_
            refine a_i2l dL_law_1352 ?_
            refine a_lcmp dL_law_1353 ?_
            refine a_if_eq (tgt := 1359) dL_law_1354 (by decide) (fun c343 => ?_) (fun c343 => ?_)
            · replace h := ifp_ c343 h
              refine a_goto (tgt := 2576) dL_law_1359 (by decide) ?_
              refine a_iinc (v := x21 + 7) (ls' := [(4, vI_ (x21 + 7)), (6, vI_ v336), (5, vI_ v332), (0, vR_ (some ((201, 0, 0)))), (1, vR_ (some p13)), (2, vR_ (some p15)), (3, vR_ (some p17))]) 6 dL_law_2576 rfl rfl (Nat.le_of_ble_eq_true rfl) rfl ?_
              refine a_goto (tgt := 23) dL_law_2579 (by decide) ?_
              refine aw_pick [3, 4, 5, 6, 0] rfl ?_
              exact ih _ _ h
            · replace h := ifn_ c343 h
              refine a_iconst (v := 0) dL_law_1357 (by decide) ?_
              cases h
        · replace h := ifn_ c340 h
          refine a_iconst (v := 0) dL_law_1340 (by decide) ?_
          cases h
      replace h := ifn_ c328 h
      by_cases c344 : (((xg_x G) x21.toNatClampNeg) &&& 63).toInt = 20
      · replace h := ifp_ c344 h
        refine a_tabIn (tgt := 1362) dL_law_40 (by rw [c344]; decide) (by rw [c344]; decide) (by rw [c344]; rfl) (by decide) ?_
        refine a_aload_n 1 dL_law_1362 rfl rfl ?_
        obtain ⟨v347, m345, e346, h⟩ := bm_some h
        have he346 := e_X1_parted (G := G) hl hf14 e346
        refine c_I he346.1 (rn_V (n := 0) (As := []) kc_1 hf14 he346 (lw_V q529 q530 q531 q90 q532) (by decide +kernel) rfl (by show 3 + 1 ≤ 1000; omega) (Nat.le_of_ble_eq_true rfl) (Nat.le_of_ble_eq_true rfl) dL_law_1363) (fun z => (os_av (As := []) z).2.1) ?_
        refine a_aload_n 2 dL_law_1366 rfl rfl ?_
        obtain ⟨v350, m348, e349, h⟩ := bm_some h
        have he349 := e_X8_parted (G := G) hl hf16 e349
        refine c_I he349.1 (rn_V (n := 0) (As := []) kc_8 hf16 he349 (lw_V q2055 q2056 q2057 q97 q2058) (by decide +kernel) rfl (by show 3 + 1 ≤ 1000; omega) (Nat.le_of_ble_eq_true rfl) (Nat.le_of_ble_eq_true rfl) dL_law_1367) (fun z => (os_av (As := []) z).2.1) ?_
        refine a_icmp_eq (tgt := 2576) dL_law_1370 (by decide) (fun c351 => ?_) (fun c351 => ?_)
        · replace h := ifp_ c351 h
          refine a_iinc (v := x21 + 7) (ls' := [(4, vI_ (x21 + 7)), (0, vR_ (some ((201, 0, 0)))), (1, vR_ (some p13)), (2, vR_ (some p15)), (3, vR_ (some p17))]) 4 dL_law_2576 rfl rfl (Nat.le_of_ble_eq_true rfl) rfl ?_
          refine a_goto (tgt := 23) dL_law_2579 (by decide) ?_
          refine aw_pick [1, 2, 3, 4, 0] rfl ?_
          exact ih _ _ h
        · replace h := ifn_ c351 h
          refine a_iconst (v := 0) dL_law_1373 (by decide) ?_
          cases h
      replace h := ifn_ c344 h
      by_cases c352 : (((xg_x G) x21.toNatClampNeg) &&& 63).toInt = 21
      · replace h := ifp_ c352 h
        refine a_tabIn (tgt := 1375) dL_law_40 (by rw [c352]; decide) (by rw [c352]; decide) (by rw [c352]; rfl) (by decide) ?_
        refine a_aload_n 1 dL_law_1375 rfl rfl ?_
        refine a_aload_n 0 dL_law_1376 rfl rfl ?_
        refine a_iload 4 dL_law_1377 rfl ?_
        refine a_iconst (v := 1) dL_law_1379 (by decide) ?_
        refine a_iadd dL_law_1380 ?_
        obtain ⟨c353, h⟩ := iz_some h
        refine a_sld (bn_ c353) dL_law_1381 ?_
        refine a_aload_n 3 dL_law_1382 rfl rfl ?_
        obtain ⟨v356, m354, e355, h⟩ := bm_some h
        have he355 := e_X0_kin (G := G) hl e355
        refine c_I he355.1 (rn_SH (n := 3) (As := [vR_ (some p13), vI_ ((xg_x G) (x21 + 1).toNatClampNeg), vR_ (some p17)]) he355 (lw_SW q1376 q1377 q89 q1378) (by decide +kernel) rfl (by show 8 + 1 ≤ 1000; omega) (Nat.le_of_ble_eq_true rfl) (Nat.le_of_ble_eq_true rfl) dL_law_1383) (fun z => (os_aS (As := [vR_ (some p13), vI_ ((xg_x G) (x21 + 1).toNatClampNeg), vR_ (some p17)]) z).2) ?_
        refine a_istore (ls' := [(5, vI_ v356), (0, vR_ (some ((201, 0, 0)))), (1, vR_ (some p13)), (2, vR_ (some p15)), (3, vR_ (some p17)), (4, vI_ x21)]) dL_law_1386 (Nat.le_of_ble_eq_true rfl) rfl ?_
        refine a_aload_n 3 dL_law_1388 rfl rfl ?_
        refine a_aload_n 1 dL_law_1389 rfl rfl ?_
        refine a_iload 5 dL_law_1390 rfl ?_
        refine a_iconst (v := 1) dL_law_1392 (by decide) ?_
        refine a_iadd dL_law_1393 ?_
        obtain ⟨c357, h⟩ := iz_some h
        refine a_sld (bn_ c357) dL_law_1394 ?_
        obtain ⟨v360, m358, e359, h⟩ := bm_some h
        have he359 := e_X8_kin (G := G) hl hf16 e359
        refine c_I he359.1 (rn_V (n := 1) (As := [vI_ ((xg_x G) (x21 + 1).toNatClampNeg)]) kc_8 hf16 he359 (lw_V q2059 q2060 q2061 q97 q2062) (by decide +kernel) rfl (by show 4 + 1 ≤ 1000; omega) (Nat.le_of_ble_eq_true rfl) (Nat.le_of_ble_eq_true rfl) dL_law_1395) (fun z => (os_av (As := [vI_ ((xg_x G) (x21 + 1).toNatClampNeg)]) z).2.1) ?_
        refine a_istore (ls' := [(6, vI_ v360), (5, vI_ v356), (0, vR_ (some ((201, 0, 0)))), (1, vR_ (some p13)), (2, vR_ (some p15)), (3, vR_ (some p17)), (4, vI_ x21)]) dL_law_1398 (Nat.le_of_ble_eq_true rfl) rfl ?_
        refine a_aload_n 4 dL_law_1400 rfl rfl ?_
        obtain ⟨v363, m361, e362, h⟩ := bm_some h
        have he362 := e_X8_thrown (G := G) hl hf16 e362
        refine c_I he362.1 (rn_V (n := 0) (As := []) kc_8 hf16 he362 (lw_V q1532 q1533 q1534 q97 q1535) (by decide +kernel) rfl (by show 2 + 1 ≤ 1000; omega) (Nat.le_of_ble_eq_true rfl) (Nat.le_of_ble_eq_true rfl) dL_law_1401) (fun z => (os_av (As := []) z).2.1) ?_
        refine a_iload 1 dL_law_1404 rfl ?_
        refine a_icmp_eq (tgt := 1411) dL_law_1406 (by decide) (fun c364 => ?_) (fun c364 => ?_)
        · replace h := ifp_ c364 h
          refine a_iload 1 dL_law_1411 rfl ?_
          refine a_if_ne (tgt := 1428) dL_law_1413 (by decide) (fun c365 => ?_) (fun c365 => ?_)
          · replace h := ifn_ c365 h
            refine a_goto (tgt := 2576) dL_law_1428 (by decide) ?_
            refine a_iinc (v := x21 + 7) (ls' := [(4, vI_ (x21 + 7)), (6, vI_ v360), (5, vI_ v356), (0, vR_ (some ((201, 0, 0)))), (1, vR_ (some p13)), (2, vR_ (some p15)), (3, vR_ (some p17))]) 6 dL_law_2576 rfl rfl (Nat.le_of_ble_eq_true rfl) rfl ?_
            refine a_goto (tgt := 23) dL_law_2579 (by decide) ?_
            refine aw_pick [3, 4, 5, 6, 0] rfl ?_
            exact ih _ _ h
          · replace h := ifp_ c365 h
            refine a_aload_n 5 dL_law_1416 rfl rfl ?_
            refine a_iconst (v := 0) dL_law_1417 (by decide) ?_
            obtain ⟨c366, h⟩ := iz_some h
            refine a_lald hf18 (bn_ c366) dL_law_1418 ?_
            refine a_iload 0 dL_law_1419 rfl ?_
            refine a_i2l dL_law_1421 ?_
            refine a_lcmp dL_law_1422 ?_
            refine a_if_eq (tgt := 1428) dL_law_1423 (by decide) (fun c367 => ?_) (fun c367 => ?_)
            · replace h := ifp_ c367 h
              refine a_goto (tgt := 2576) dL_law_1428 (by decide) ?_
              refine a_iinc (v := x21 + 7) (ls' := [(4, vI_ (x21 + 7)), (6, vI_ v360), (5, vI_ v356), (0, vR_ (some ((201, 0, 0)))), (1, vR_ (some p13)), (2, vR_ (some p15)), (3, vR_ (some p17))]) 6 dL_law_2576 rfl rfl (Nat.le_of_ble_eq_true rfl) rfl ?_
              refine a_goto (tgt := 23) dL_law_2579 (by decide) ?_
              refine aw_pick [3, 4, 5, 6, 0] rfl ?_
              exact ih _ _ h
            · replace h := ifn_ c367 h
              refine a_iconst (v := 0) dL_law_1426 (by decide) ?_
              cases h
        · replace h := ifn_ c364 h
          refine a_iconst (v := 0) dL_law_1409 (by decide) ?_
          cases h
      replace h := ifn_ c352 h
      by_cases c368 : (((xg_x G) x21.toNatClampNeg) &&& 63).toInt = 22
      · replace h := ifp_ c368 h
        refine a_tabIn (tgt := 1431) dL_law_40 (by rw [c368]; decide) (by rw [c368]; decide) (by rw [c368]; rfl) (by decide) ?_
        refine a_aload_n 1 dL_law_1431 rfl rfl ?_
        refine a_aload_n 0 dL_law_1432 rfl rfl ?_
        refine a_iload 4 dL_law_1433 rfl ?_
        refine a_iconst (v := 1) dL_law_1435 (by decide) ?_
        refine a_iadd dL_law_1436 ?_
        obtain ⟨c369, h⟩ := iz_some h
        refine a_sld (bn_ c369) dL_law_1437 ?_
        refine a_aload_n 3 dL_law_1438 rfl rfl ?_
        obtain ⟨v372, m370, e371, h⟩ := bm_some h
        have he371 := e_X0_fare (G := G) hl e371
        refine c_I he371.1 (rn_SH (n := 3) (As := [vR_ (some p13), vI_ ((xg_x G) (x21 + 1).toNatClampNeg), vR_ (some p17)]) he371 (lw_SW q1383 q1384 q89 q1385) (by decide +kernel) rfl (by show 172 + 1 ≤ 1000; omega) (Nat.le_of_ble_eq_true rfl) (Nat.le_of_ble_eq_true rfl) dL_law_1439) (fun z => (os_aS (As := [vR_ (some p13), vI_ ((xg_x G) (x21 + 1).toNatClampNeg), vR_ (some p17)]) z).2) ?_
        refine a_istore (ls' := [(5, vI_ v372), (0, vR_ (some ((201, 0, 0)))), (1, vR_ (some p13)), (2, vR_ (some p15)), (3, vR_ (some p17)), (4, vI_ x21)]) dL_law_1442 (Nat.le_of_ble_eq_true rfl) rfl ?_
        refine a_aload_n 3 dL_law_1444 rfl rfl ?_
        refine a_aload_n 1 dL_law_1445 rfl rfl ?_
        refine a_iload 5 dL_law_1446 rfl ?_
        refine a_iconst (v := 1) dL_law_1448 (by decide) ?_
        refine a_iadd dL_law_1449 ?_
        obtain ⟨c373, h⟩ := iz_some h
        refine a_sld (bn_ c373) dL_law_1450 ?_
        obtain ⟨v376, m374, e375, h⟩ := bm_some h
        have he375 := e_X8_fare (G := G) hl hf16 e375
        refine c_I he375.1 (rn_V (n := 1) (As := [vI_ ((xg_x G) (x21 + 1).toNatClampNeg)]) kc_8 hf16 he375 (lw_V q2063 q2064 q2065 q97 q2066) (by decide +kernel) rfl (by show 8 + 1 ≤ 1000; omega) (Nat.le_of_ble_eq_true rfl) (Nat.le_of_ble_eq_true rfl) dL_law_1451) (fun z => (os_av (As := [vI_ ((xg_x G) (x21 + 1).toNatClampNeg)]) z).2.1) ?_
        refine a_istore (ls' := [(6, vI_ v376), (5, vI_ v372), (0, vR_ (some ((201, 0, 0)))), (1, vR_ (some p13)), (2, vR_ (some p15)), (3, vR_ (some p17)), (4, vI_ x21)]) dL_law_1454 (Nat.le_of_ble_eq_true rfl) rfl ?_
        refine a_aload_n 4 dL_law_1456 rfl rfl ?_
        obtain ⟨v379, m377, e378, h⟩ := bm_some h
        have he378 := e_X8_thrown (G := G) hl hf16 e378
        refine c_I he378.1 (rn_V (n := 0) (As := []) kc_8 hf16 he378 (lw_V q1532 q1533 q1534 q97 q1535) (by decide +kernel) rfl (by show 2 + 1 ≤ 1000; omega) (Nat.le_of_ble_eq_true rfl) (Nat.le_of_ble_eq_true rfl) dL_law_1457) (fun z => (os_av (As := []) z).2.1) ?_
        refine a_iload 1 dL_law_1460 rfl ?_
        refine a_icmp_eq (tgt := 1467) dL_law_1462 (by decide) (fun c380 => ?_) (fun c380 => ?_)
        · replace h := ifp_ c380 h
          refine a_iload 1 dL_law_1467 rfl ?_
          refine a_if_ne (tgt := 1484) dL_law_1469 (by decide) (fun c381 => ?_) (fun c381 => ?_)
          · replace h := ifn_ c381 h
            refine a_goto (tgt := 2576) dL_law_1484 (by decide) ?_
            refine a_iinc (v := x21 + 7) (ls' := [(4, vI_ (x21 + 7)), (6, vI_ v376), (5, vI_ v372), (0, vR_ (some ((201, 0, 0)))), (1, vR_ (some p13)), (2, vR_ (some p15)), (3, vR_ (some p17))]) 6 dL_law_2576 rfl rfl (Nat.le_of_ble_eq_true rfl) rfl ?_
            refine a_goto (tgt := 23) dL_law_2579 (by decide) ?_
            refine aw_pick [3, 4, 5, 6, 0] rfl ?_
            exact ih _ _ h
          · replace h := ifp_ c381 h
            refine a_aload_n 5 dL_law_1472 rfl rfl ?_
            refine a_iconst (v := 0) dL_law_1473 (by decide) ?_
            obtain ⟨c382, h⟩ := iz_some h
            refine a_lald hf18 (bn_ c382) dL_law_1474 ?_
            refine a_iload 0 dL_law_1475 rfl ?_
            refine a_i2l dL_law_1477 ?_
            refine a_lcmp dL_law_1478 ?_
            refine a_if_eq (tgt := 1484) dL_law_1479 (by decide) (fun c383 => ?_) (fun c383 => ?_)
            · replace h := ifp_ c383 h
              refine a_goto (tgt := 2576) dL_law_1484 (by decide) ?_
              refine a_iinc (v := x21 + 7) (ls' := [(4, vI_ (x21 + 7)), (6, vI_ v376), (5, vI_ v372), (0, vR_ (some ((201, 0, 0)))), (1, vR_ (some p13)), (2, vR_ (some p15)), (3, vR_ (some p17))]) 6 dL_law_2576 rfl rfl (Nat.le_of_ble_eq_true rfl) rfl ?_
              refine a_goto (tgt := 23) dL_law_2579 (by decide) ?_
              refine aw_pick [3, 4, 5, 6, 0] rfl ?_
              exact ih _ _ h
            · replace h := ifn_ c383 h
              refine a_iconst (v := 0) dL_law_1482 (by decide) ?_
              cases h
        · replace h := ifn_ c380 h
          refine a_iconst (v := 0) dL_law_1465 (by decide) ?_
          cases h
      replace h := ifn_ c368 h
      by_cases c384 : (((xg_x G) x21.toNatClampNeg) &&& 63).toInt = 23
      · replace h := ifp_ c384 h
        refine a_tabIn (tgt := 1487) dL_law_40 (by rw [c384]; decide) (by rw [c384]; decide) (by rw [c384]; rfl) (by decide) ?_
        refine a_aload_n 1 dL_law_1487 rfl rfl ?_
        refine a_aload_n 0 dL_law_1488 rfl rfl ?_
        refine a_iload 4 dL_law_1489 rfl ?_
        refine a_iconst (v := 1) dL_law_1491 (by decide) ?_
        refine a_iadd dL_law_1492 ?_
        obtain ⟨c385, h⟩ := iz_some h
        refine a_sld (bn_ c385) dL_law_1493 ?_
        refine a_aload_n 3 dL_law_1494 rfl rfl ?_
        obtain ⟨v388, m386, e387, h⟩ := bm_some h
        have he387 := e_X0_canPay (G := G) hl e387
        refine c_I he387.1 (rn_SH (n := 3) (As := [vR_ (some p13), vI_ ((xg_x G) (x21 + 1).toNatClampNeg), vR_ (some p17)]) he387 (lw_SW q1391 q1392 q89 q1393) (by decide +kernel) rfl (by show 173 + 1 ≤ 1000; omega) (Nat.le_of_ble_eq_true rfl) (Nat.le_of_ble_eq_true rfl) dL_law_1495) (fun z => (os_aS (As := [vR_ (some p13), vI_ ((xg_x G) (x21 + 1).toNatClampNeg), vR_ (some p17)]) z).2) ?_
        refine a_istore (ls' := [(5, vI_ v388), (0, vR_ (some ((201, 0, 0)))), (1, vR_ (some p13)), (2, vR_ (some p15)), (3, vR_ (some p17)), (4, vI_ x21)]) dL_law_1498 (Nat.le_of_ble_eq_true rfl) rfl ?_
        refine a_aload_n 3 dL_law_1500 rfl rfl ?_
        refine a_aload_n 1 dL_law_1501 rfl rfl ?_
        refine a_iload 5 dL_law_1502 rfl ?_
        refine a_iconst (v := 1) dL_law_1504 (by decide) ?_
        refine a_iadd dL_law_1505 ?_
        obtain ⟨c389, h⟩ := iz_some h
        refine a_sld (bn_ c389) dL_law_1506 ?_
        obtain ⟨v392, m390, e391, h⟩ := bm_some h
        have he391 := e_X8_canPay (G := G) hl hf16 e391
        refine c_I he391.1 (rn_V (n := 1) (As := [vI_ ((xg_x G) (x21 + 1).toNatClampNeg)]) kc_8 hf16 he391 (lw_V q2067 q2068 q2069 q97 q2070) (by decide +kernel) rfl (by show 9 + 1 ≤ 1000; omega) (Nat.le_of_ble_eq_true rfl) (Nat.le_of_ble_eq_true rfl) dL_law_1507) (fun z => (os_av (As := [vI_ ((xg_x G) (x21 + 1).toNatClampNeg)]) z).2.1) ?_
        refine a_istore (ls' := [(6, vI_ v392), (5, vI_ v388), (0, vR_ (some ((201, 0, 0)))), (1, vR_ (some p13)), (2, vR_ (some p15)), (3, vR_ (some p17)), (4, vI_ x21)]) dL_law_1510 (Nat.le_of_ble_eq_true rfl) rfl ?_
        refine a_aload_n 4 dL_law_1512 rfl rfl ?_
        obtain ⟨v395, m393, e394, h⟩ := bm_some h
        have he394 := e_X8_thrown (G := G) hl hf16 e394
        refine c_I he394.1 (rn_V (n := 0) (As := []) kc_8 hf16 he394 (lw_V q1532 q1533 q1534 q97 q1535) (by decide +kernel) rfl (by show 2 + 1 ≤ 1000; omega) (Nat.le_of_ble_eq_true rfl) (Nat.le_of_ble_eq_true rfl) dL_law_1513) (fun z => (os_av (As := []) z).2.1) ?_
        refine a_iload 1 dL_law_1516 rfl ?_
        refine a_icmp_eq (tgt := 1523) dL_law_1518 (by decide) (fun c396 => ?_) (fun c396 => ?_)
        · replace h := ifp_ c396 h
          refine a_iload 1 dL_law_1523 rfl ?_
          refine a_if_ne (tgt := 1547) dL_law_1525 (by decide) (fun c397 => ?_) (fun c397 => ?_)
          · replace h := ifn_ c397 h
            refine a_goto (tgt := 2576) dL_law_1547 (by decide) ?_
            refine a_iinc (v := x21 + 7) (ls' := [(4, vI_ (x21 + 7)), (6, vI_ v392), (5, vI_ v388), (0, vR_ (some ((201, 0, 0)))), (1, vR_ (some p13)), (2, vR_ (some p15)), (3, vR_ (some p17))]) 6 dL_law_2576 rfl rfl (Nat.le_of_ble_eq_true rfl) rfl ?_
            refine a_goto (tgt := 23) dL_law_2579 (by decide) ?_
            refine aw_pick [3, 4, 5, 6, 0] rfl ?_
            exact ih _ _ h
          · replace h := ifp_ c397 h
            refine a_aload_n 5 dL_law_1528 rfl rfl ?_
            refine a_iconst (v := 0) dL_law_1529 (by decide) ?_
            obtain ⟨c398, h⟩ := iz_some h
            refine a_lald hf18 (bn_ c398) dL_law_1530 ?_
            refine a_iload 0 dL_law_1531 rfl ?_
            obtain ⟨k399, e405, h⟩ := jn3_some h
            have hk399 : ∀ (y401 : Int64) (y402 : Int64) (m400 : pm_M), k399 y401 y402 m400 = some (r, m') → AW_ cL_law RX0 (some .boolean, nm9, 1000, 8, m0, eE_, (.inl none), G, l, tb9, false) m400 1541 [(0, vR_ (some ((201, 0, 0)))), (1, vR_ (some p13)), (2, vR_ (some p15)), (3, vR_ (some p17)), (4, vI_ x21)] [vL_ y402, vL_ y401] := by
              intro y401 y402 m400 h
              have h := (e405 y401 y402 m400).symm.trans h
              refine a_lcmp dL_law_1541 ?_
              refine a_if_eq (tgt := 1547) dL_law_1542 (by decide) (fun c403 => ?_) (fun c403 => ?_)
              · replace h := ifp_ c403 h
                refine a_goto (tgt := 2576) dL_law_1547 (by decide) ?_
                refine a_iinc (v := x21 + 7) (ls' := [(4, vI_ (x21 + 7)), (0, vR_ (some ((201, 0, 0)))), (1, vR_ (some p13)), (2, vR_ (some p15)), (3, vR_ (some p17))]) 4 dL_law_2576 rfl rfl (Nat.le_of_ble_eq_true rfl) rfl ?_
                refine a_goto (tgt := 23) dL_law_2579 (by decide) ?_
                refine aw_pick [1, 2, 3, 4, 0] rfl ?_
                exact ih _ _ h
              · replace h := ifn_ c403 h
                refine a_iconst (v := 0) dL_law_1545 (by decide) ?_
                cases h
            refine a_if_eq (tgt := 1540) dL_law_1533 (by decide) (fun c404 => ?_) (fun c404 => ?_)
            · replace h := ifp_ c404 h
              refine a_lconst (v := 0) dL_law_1540 (by decide) ?_
              refine aw_pick [2, 3, 4, 5, 6] rfl ?_
              exact hk399 _ _ _ h
            · replace h := ifn_ c404 h
              refine a_lconst (v := 1) dL_law_1536 (by decide) ?_
              refine a_goto (tgt := 1541) dL_law_1537 (by decide) ?_
              refine aw_pick [2, 3, 4, 5, 6] rfl ?_
              exact hk399 _ _ _ h
        · replace h := ifn_ c396 h
          refine a_iconst (v := 0) dL_law_1521 (by decide) ?_
          cases h
      replace h := ifn_ c384 h
      by_cases c406 : (((xg_x G) x21.toNatClampNeg) &&& 63).toInt = 24
      · replace h := ifp_ c406 h
        refine a_tabIn (tgt := 1550) dL_law_40 (by rw [c406]; decide) (by rw [c406]; decide) (by rw [c406]; rfl) (by decide) ?_
        refine a_aload_n 1 dL_law_1550 rfl rfl ?_
        refine a_aload_n 0 dL_law_1551 rfl rfl ?_
        refine a_iload 4 dL_law_1552 rfl ?_
        refine a_iconst (v := 1) dL_law_1554 (by decide) ?_
        refine a_iadd dL_law_1555 ?_
        obtain ⟨c407, h⟩ := iz_some h
        refine a_sld (bn_ c407) dL_law_1556 ?_
        refine a_aload_n 3 dL_law_1557 rfl rfl ?_
        obtain ⟨v410, m408, e409, h⟩ := bm_some h
        have he409 := e_X0_enough (G := G) hl e409
        refine c_I he409.1 (rn_SH (n := 3) (As := [vR_ (some p13), vI_ ((xg_x G) (x21 + 1).toNatClampNeg), vR_ (some p17)]) he409 (lw_SW q1399 q1400 q89 q1401) (by decide +kernel) rfl (by show 8 + 1 ≤ 1000; omega) (Nat.le_of_ble_eq_true rfl) (Nat.le_of_ble_eq_true rfl) dL_law_1558) (fun z => (os_aS (As := [vR_ (some p13), vI_ ((xg_x G) (x21 + 1).toNatClampNeg), vR_ (some p17)]) z).2) ?_
        refine a_istore (ls' := [(5, vI_ v410), (0, vR_ (some ((201, 0, 0)))), (1, vR_ (some p13)), (2, vR_ (some p15)), (3, vR_ (some p17)), (4, vI_ x21)]) dL_law_1561 (Nat.le_of_ble_eq_true rfl) rfl ?_
        refine a_aload_n 3 dL_law_1563 rfl rfl ?_
        refine a_aload_n 1 dL_law_1564 rfl rfl ?_
        refine a_iload 5 dL_law_1565 rfl ?_
        refine a_iconst (v := 1) dL_law_1567 (by decide) ?_
        refine a_iadd dL_law_1568 ?_
        obtain ⟨c411, h⟩ := iz_some h
        refine a_sld (bn_ c411) dL_law_1569 ?_
        obtain ⟨v414, m412, e413, h⟩ := bm_some h
        have he413 := e_X8_enough (G := G) hl hf16 e413
        refine c_I he413.1 (rn_V (n := 1) (As := [vI_ ((xg_x G) (x21 + 1).toNatClampNeg)]) kc_8 hf16 he413 (lw_V q2071 q2072 q2073 q97 q2074) (by decide +kernel) rfl (by show 4 + 1 ≤ 1000; omega) (Nat.le_of_ble_eq_true rfl) (Nat.le_of_ble_eq_true rfl) dL_law_1570) (fun z => (os_av (As := [vI_ ((xg_x G) (x21 + 1).toNatClampNeg)]) z).2.1) ?_
        refine a_istore (ls' := [(6, vI_ v414), (5, vI_ v410), (0, vR_ (some ((201, 0, 0)))), (1, vR_ (some p13)), (2, vR_ (some p15)), (3, vR_ (some p17)), (4, vI_ x21)]) dL_law_1573 (Nat.le_of_ble_eq_true rfl) rfl ?_
        refine a_aload_n 4 dL_law_1575 rfl rfl ?_
        obtain ⟨v417, m415, e416, h⟩ := bm_some h
        have he416 := e_X8_thrown (G := G) hl hf16 e416
        refine c_I he416.1 (rn_V (n := 0) (As := []) kc_8 hf16 he416 (lw_V q1532 q1533 q1534 q97 q1535) (by decide +kernel) rfl (by show 2 + 1 ≤ 1000; omega) (Nat.le_of_ble_eq_true rfl) (Nat.le_of_ble_eq_true rfl) dL_law_1576) (fun z => (os_av (As := []) z).2.1) ?_
        refine a_iload 1 dL_law_1579 rfl ?_
        refine a_icmp_eq (tgt := 1586) dL_law_1581 (by decide) (fun c418 => ?_) (fun c418 => ?_)
        · replace h := ifp_ c418 h
          refine a_iload 1 dL_law_1586 rfl ?_
          refine a_if_ne (tgt := 1603) dL_law_1588 (by decide) (fun c419 => ?_) (fun c419 => ?_)
          · replace h := ifn_ c419 h
            refine a_goto (tgt := 2576) dL_law_1603 (by decide) ?_
            refine a_iinc (v := x21 + 7) (ls' := [(4, vI_ (x21 + 7)), (6, vI_ v414), (5, vI_ v410), (0, vR_ (some ((201, 0, 0)))), (1, vR_ (some p13)), (2, vR_ (some p15)), (3, vR_ (some p17))]) 6 dL_law_2576 rfl rfl (Nat.le_of_ble_eq_true rfl) rfl ?_
            refine a_goto (tgt := 23) dL_law_2579 (by decide) ?_
            refine aw_pick [3, 4, 5, 6, 0] rfl ?_
            exact ih _ _ h
          · replace h := ifp_ c419 h
            refine a_aload_n 5 dL_law_1591 rfl rfl ?_
            refine a_iconst (v := 0) dL_law_1592 (by decide) ?_
            obtain ⟨c420, h⟩ := iz_some h
            refine a_lald hf18 (bn_ c420) dL_law_1593 ?_
            refine a_iload 0 dL_law_1594 rfl ?_
            refine a_i2l dL_law_1596 ?_
            refine a_lcmp dL_law_1597 ?_
            refine a_if_eq (tgt := 1603) dL_law_1598 (by decide) (fun c421 => ?_) (fun c421 => ?_)
            · replace h := ifp_ c421 h
              refine a_goto (tgt := 2576) dL_law_1603 (by decide) ?_
              refine a_iinc (v := x21 + 7) (ls' := [(4, vI_ (x21 + 7)), (6, vI_ v414), (5, vI_ v410), (0, vR_ (some ((201, 0, 0)))), (1, vR_ (some p13)), (2, vR_ (some p15)), (3, vR_ (some p17))]) 6 dL_law_2576 rfl rfl (Nat.le_of_ble_eq_true rfl) rfl ?_
              refine a_goto (tgt := 23) dL_law_2579 (by decide) ?_
              refine aw_pick [3, 4, 5, 6, 0] rfl ?_
              exact ih _ _ h
            · replace h := ifn_ c421 h
              refine a_iconst (v := 0) dL_law_1601 (by decide) ?_
              cases h
        · replace h := ifn_ c418 h
          refine a_iconst (v := 0) dL_law_1584 (by decide) ?_
          cases h
      replace h := ifn_ c406 h
      by_cases c422 : (((xg_x G) x21.toNatClampNeg) &&& 63).toInt = 25
      · replace h := ifp_ c422 h
        refine a_tabIn (tgt := 1606) dL_law_40 (by rw [c422]; decide) (by rw [c422]; decide) (by rw [c422]; rfl) (by decide) ?_
        refine a_aload_n 1 dL_law_1606 rfl rfl ?_
        refine a_aload_n 0 dL_law_1607 rfl rfl ?_
        refine a_iload 4 dL_law_1608 rfl ?_
        refine a_iconst (v := 1) dL_law_1610 (by decide) ?_
        refine a_iadd dL_law_1611 ?_
        obtain ⟨c423, h⟩ := iz_some h
        refine a_sld (bn_ c423) dL_law_1612 ?_
        refine a_aload_n 3 dL_law_1613 rfl rfl ?_
        obtain ⟨v426, m424, e425, h⟩ := bm_some h
        have he425 := e_X0_level (G := G) hl e425
        refine c_I he425.1 (rn_SH (n := 3) (As := [vR_ (some p13), vI_ ((xg_x G) (x21 + 1).toNatClampNeg), vR_ (some p17)]) he425 (lw_SW q1406 q1407 q89 q1408) (by decide +kernel) rfl (by show 8 + 1 ≤ 1000; omega) (Nat.le_of_ble_eq_true rfl) (Nat.le_of_ble_eq_true rfl) dL_law_1614) (fun z => (os_aS (As := [vR_ (some p13), vI_ ((xg_x G) (x21 + 1).toNatClampNeg), vR_ (some p17)]) z).2) ?_
        refine a_istore (ls' := [(5, vI_ v426), (0, vR_ (some ((201, 0, 0)))), (1, vR_ (some p13)), (2, vR_ (some p15)), (3, vR_ (some p17)), (4, vI_ x21)]) dL_law_1617 (Nat.le_of_ble_eq_true rfl) rfl ?_
        refine a_aload_n 3 dL_law_1619 rfl rfl ?_
        refine a_aload_n 1 dL_law_1620 rfl rfl ?_
        refine a_iload 5 dL_law_1621 rfl ?_
        refine a_iconst (v := 1) dL_law_1623 (by decide) ?_
        refine a_iadd dL_law_1624 ?_
        obtain ⟨c427, h⟩ := iz_some h
        refine a_sld (bn_ c427) dL_law_1625 ?_
        obtain ⟨v430, m428, e429, h⟩ := bm_some h
        have he429 := e_X8_level (G := G) hl hf16 e429
        refine c_I he429.1 (rn_V (n := 1) (As := [vI_ ((xg_x G) (x21 + 1).toNatClampNeg)]) kc_8 hf16 he429 (lw_V q2075 q2076 q2077 q97 q2078) (by decide +kernel) rfl (by show 4 + 1 ≤ 1000; omega) (Nat.le_of_ble_eq_true rfl) (Nat.le_of_ble_eq_true rfl) dL_law_1626) (fun z => (os_av (As := [vI_ ((xg_x G) (x21 + 1).toNatClampNeg)]) z).2.1) ?_
        refine a_istore (ls' := [(6, vI_ v430), (5, vI_ v426), (0, vR_ (some ((201, 0, 0)))), (1, vR_ (some p13)), (2, vR_ (some p15)), (3, vR_ (some p17)), (4, vI_ x21)]) dL_law_1629 (Nat.le_of_ble_eq_true rfl) rfl ?_
        refine a_aload_n 4 dL_law_1631 rfl rfl ?_
        obtain ⟨v433, m431, e432, h⟩ := bm_some h
        have he432 := e_X8_thrown (G := G) hl hf16 e432
        refine c_I he432.1 (rn_V (n := 0) (As := []) kc_8 hf16 he432 (lw_V q1532 q1533 q1534 q97 q1535) (by decide +kernel) rfl (by show 2 + 1 ≤ 1000; omega) (Nat.le_of_ble_eq_true rfl) (Nat.le_of_ble_eq_true rfl) dL_law_1632) (fun z => (os_av (As := []) z).2.1) ?_
        refine a_iload 1 dL_law_1635 rfl ?_
        refine a_icmp_eq (tgt := 1642) dL_law_1637 (by decide) (fun c434 => ?_) (fun c434 => ?_)
        · replace h := ifp_ c434 h
          refine a_iload 1 dL_law_1642 rfl ?_
          refine a_if_ne (tgt := 1659) dL_law_1644 (by decide) (fun c435 => ?_) (fun c435 => ?_)
          · replace h := ifn_ c435 h
            refine a_goto (tgt := 2576) dL_law_1659 (by decide) ?_
            refine a_iinc (v := x21 + 7) (ls' := [(4, vI_ (x21 + 7)), (6, vI_ v430), (5, vI_ v426), (0, vR_ (some ((201, 0, 0)))), (1, vR_ (some p13)), (2, vR_ (some p15)), (3, vR_ (some p17))]) 6 dL_law_2576 rfl rfl (Nat.le_of_ble_eq_true rfl) rfl ?_
            refine a_goto (tgt := 23) dL_law_2579 (by decide) ?_
            refine aw_pick [3, 4, 5, 6, 0] rfl ?_
            exact ih _ _ h
          · replace h := ifp_ c435 h
            refine a_aload_n 5 dL_law_1647 rfl rfl ?_
            refine a_iconst (v := 0) dL_law_1648 (by decide) ?_
            obtain ⟨c436, h⟩ := iz_some h
            refine a_lald hf18 (bn_ c436) dL_law_1649 ?_
            refine a_iload 0 dL_law_1650 rfl ?_
            refine a_i2l dL_law_1652 ?_
            refine a_lcmp dL_law_1653 ?_
            refine a_if_eq (tgt := 1659) dL_law_1654 (by decide) (fun c437 => ?_) (fun c437 => ?_)
            · replace h := ifp_ c437 h
              refine a_goto (tgt := 2576) dL_law_1659 (by decide) ?_
              refine a_iinc (v := x21 + 7) (ls' := [(4, vI_ (x21 + 7)), (6, vI_ v430), (5, vI_ v426), (0, vR_ (some ((201, 0, 0)))), (1, vR_ (some p13)), (2, vR_ (some p15)), (3, vR_ (some p17))]) 6 dL_law_2576 rfl rfl (Nat.le_of_ble_eq_true rfl) rfl ?_
              refine a_goto (tgt := 23) dL_law_2579 (by decide) ?_
              refine aw_pick [3, 4, 5, 6, 0] rfl ?_
              exact ih _ _ h
            · replace h := ifn_ c437 h
              refine a_iconst (v := 0) dL_law_1657 (by decide) ?_
              cases h
        · replace h := ifn_ c434 h
          refine a_iconst (v := 0) dL_law_1640 (by decide) ?_
          cases h
      replace h := ifn_ c422 h
      by_cases c438 : (((xg_x G) x21.toNatClampNeg) &&& 63).toInt = 26
      · replace h := ifp_ c438 h
        refine a_tabIn (tgt := 1662) dL_law_40 (by rw [c438]; decide) (by rw [c438]; decide) (by rw [c438]; rfl) (by decide) ?_
        refine a_aload_n 1 dL_law_1662 rfl rfl ?_
        obtain ⟨v441, m439, e440, h⟩ := bm_some h
        have he440 := e_X1_hunger (G := G) hl hf14 e440
        refine c_I he440.1 (rn_V (n := 0) (As := []) kc_1 hf14 he440 (lw_V q534 q535 q536 q90 q537) (by decide +kernel) rfl (by show 3 + 1 ≤ 1000; omega) (Nat.le_of_ble_eq_true rfl) (Nat.le_of_ble_eq_true rfl) dL_law_1663) (fun z => (os_av (As := []) z).2.1) ?_
        refine a_aload_n 2 dL_law_1666 rfl rfl ?_
        obtain ⟨v444, m442, e443, h⟩ := bm_some h
        have he443 := e_X8_hunger (G := G) hl hf16 e443
        refine c_I he443.1 (rn_V (n := 0) (As := []) kc_8 hf16 he443 (lw_V q2079 q2080 q2081 q97 q2082) (by decide +kernel) rfl (by show 9 + 1 ≤ 1000; omega) (Nat.le_of_ble_eq_true rfl) (Nat.le_of_ble_eq_true rfl) dL_law_1667) (fun z => (os_av (As := []) z).2.1) ?_
        refine a_icmp_eq (tgt := 2576) dL_law_1670 (by decide) (fun c445 => ?_) (fun c445 => ?_)
        · replace h := ifp_ c445 h
          refine a_iinc (v := x21 + 7) (ls' := [(4, vI_ (x21 + 7)), (0, vR_ (some ((201, 0, 0)))), (1, vR_ (some p13)), (2, vR_ (some p15)), (3, vR_ (some p17))]) 4 dL_law_2576 rfl rfl (Nat.le_of_ble_eq_true rfl) rfl ?_
          refine a_goto (tgt := 23) dL_law_2579 (by decide) ?_
          refine aw_pick [1, 2, 3, 4, 0] rfl ?_
          exact ih _ _ h
        · replace h := ifn_ c445 h
          refine a_iconst (v := 0) dL_law_1673 (by decide) ?_
          cases h
      replace h := ifn_ c438 h
      by_cases c446 : (((xg_x G) x21.toNatClampNeg) &&& 63).toInt = 27
      · replace h := ifp_ c446 h
        refine a_tabIn (tgt := 1675) dL_law_40 (by rw [c446]; decide) (by rw [c446]; decide) (by rw [c446]; rfl) (by decide) ?_
        refine a_aload_n 1 dL_law_1675 rfl rfl ?_
        refine a_aload_n 0 dL_law_1676 rfl rfl ?_
        refine a_iload 4 dL_law_1677 rfl ?_
        refine a_iconst (v := 1) dL_law_1679 (by decide) ?_
        refine a_iadd dL_law_1680 ?_
        obtain ⟨c447, h⟩ := iz_some h
        refine a_sld (bn_ c447) dL_law_1681 ?_
        refine a_aload_n 0 dL_law_1682 rfl rfl ?_
        refine a_iload 4 dL_law_1683 rfl ?_
        refine a_iconst (v := 2) dL_law_1685 (by decide) ?_
        refine a_iadd dL_law_1686 ?_
        obtain ⟨c448, h⟩ := iz_some h
        refine a_sld (bn_ c448) dL_law_1687 ?_
        refine a_aload_n 3 dL_law_1688 rfl rfl ?_
        obtain ⟨v451, m449, e450, h⟩ := bm_some h
        have he450 := e_X0_terms (G := G) hl e450
        refine c_I he450.1 (rn_SH (n := 4) (As := [vR_ (some p13), vI_ ((xg_x G) (x21 + 1).toNatClampNeg), vI_ ((xg_x G) (x21 + 2).toNatClampNeg), vR_ (some p17)]) he450 (lw_SW q1413 q1414 q89 q1415) (by decide +kernel) rfl (by show 168 + 1 ≤ 1000; omega) (Nat.le_of_ble_eq_true rfl) (Nat.le_of_ble_eq_true rfl) dL_law_1689) (fun z => (os_aS (As := [vR_ (some p13), vI_ ((xg_x G) (x21 + 1).toNatClampNeg), vI_ ((xg_x G) (x21 + 2).toNatClampNeg), vR_ (some p17)]) z).2) ?_
        refine a_istore (ls' := [(5, vI_ v451), (0, vR_ (some ((201, 0, 0)))), (1, vR_ (some p13)), (2, vR_ (some p15)), (3, vR_ (some p17)), (4, vI_ x21)]) dL_law_1692 (Nat.le_of_ble_eq_true rfl) rfl ?_
        refine a_aload_n 3 dL_law_1694 rfl rfl ?_
        refine a_aload_n 1 dL_law_1695 rfl rfl ?_
        refine a_iload 5 dL_law_1696 rfl ?_
        refine a_iconst (v := 1) dL_law_1698 (by decide) ?_
        refine a_iadd dL_law_1699 ?_
        obtain ⟨c452, h⟩ := iz_some h
        refine a_sld (bn_ c452) dL_law_1700 ?_
        refine a_aload_n 1 dL_law_1701 rfl rfl ?_
        refine a_iload 5 dL_law_1702 rfl ?_
        refine a_iconst (v := 2) dL_law_1704 (by decide) ?_
        refine a_iadd dL_law_1705 ?_
        obtain ⟨c453, h⟩ := iz_some h
        refine a_sld (bn_ c453) dL_law_1706 ?_
        obtain ⟨v456, m454, e455, h⟩ := bm_some h
        have he455 := e_X8_terms (G := G) hl hf16 e455
        refine c_I he455.1 (rn_V (n := 2) (As := [vI_ ((xg_x G) (x21 + 1).toNatClampNeg), vI_ ((xg_x G) (x21 + 2).toNatClampNeg)]) kc_8 hf16 he455 (lw_V q2083 q2084 q2085 q97 q2086) (by decide +kernel) rfl (by show 7 + 1 ≤ 1000; omega) (Nat.le_of_ble_eq_true rfl) (Nat.le_of_ble_eq_true rfl) dL_law_1707) (fun z => (os_av (As := [vI_ ((xg_x G) (x21 + 1).toNatClampNeg), vI_ ((xg_x G) (x21 + 2).toNatClampNeg)]) z).2.1) ?_
        refine a_istore (ls' := [(6, vI_ v456), (5, vI_ v451), (0, vR_ (some ((201, 0, 0)))), (1, vR_ (some p13)), (2, vR_ (some p15)), (3, vR_ (some p17)), (4, vI_ x21)]) dL_law_1710 (Nat.le_of_ble_eq_true rfl) rfl ?_
        refine a_aload_n 4 dL_law_1712 rfl rfl ?_
        obtain ⟨v459, m457, e458, h⟩ := bm_some h
        have he458 := e_X8_thrown (G := G) hl hf16 e458
        refine c_I he458.1 (rn_V (n := 0) (As := []) kc_8 hf16 he458 (lw_V q1532 q1533 q1534 q97 q1535) (by decide +kernel) rfl (by show 2 + 1 ≤ 1000; omega) (Nat.le_of_ble_eq_true rfl) (Nat.le_of_ble_eq_true rfl) dL_law_1713) (fun z => (os_av (As := []) z).2.1) ?_
        refine a_iload 1 dL_law_1716 rfl ?_
        refine a_icmp_eq (tgt := 1723) dL_law_1718 (by decide) (fun c460 => ?_) (fun c460 => ?_)
        · replace h := ifp_ c460 h
          refine a_iload 1 dL_law_1723 rfl ?_
          refine a_if_ne (tgt := 1740) dL_law_1725 (by decide) (fun c461 => ?_) (fun c461 => ?_)
          · replace h := ifn_ c461 h
            refine a_goto (tgt := 2576) dL_law_1740 (by decide) ?_
            refine a_iinc (v := x21 + 7) (ls' := [(4, vI_ (x21 + 7)), (6, vI_ v456), (5, vI_ v451), (0, vR_ (some ((201, 0, 0)))), (1, vR_ (some p13)), (2, vR_ (some p15)), (3, vR_ (some p17))]) 6 dL_law_2576 rfl rfl (Nat.le_of_ble_eq_true rfl) rfl ?_
            refine a_goto (tgt := 23) dL_law_2579 (by decide) ?_
            refine aw_pick [3, 4, 5, 6, 0] rfl ?_
            exact ih _ _ h
          · replace h := ifp_ c461 h
            refine a_aload_n 5 dL_law_1728 rfl rfl ?_
            refine a_iconst (v := 0) dL_law_1729 (by decide) ?_
            obtain ⟨c462, h⟩ := iz_some h
            refine a_lald hf18 (bn_ c462) dL_law_1730 ?_
            refine a_iload 0 dL_law_1731 rfl ?_
            refine a_i2l dL_law_1733 ?_
            refine a_lcmp dL_law_1734 ?_
            refine a_if_eq (tgt := 1740) dL_law_1735 (by decide) (fun c463 => ?_) (fun c463 => ?_)
            · replace h := ifp_ c463 h
              refine a_goto (tgt := 2576) dL_law_1740 (by decide) ?_
              refine a_iinc (v := x21 + 7) (ls' := [(4, vI_ (x21 + 7)), (6, vI_ v456), (5, vI_ v451), (0, vR_ (some ((201, 0, 0)))), (1, vR_ (some p13)), (2, vR_ (some p15)), (3, vR_ (some p17))]) 6 dL_law_2576 rfl rfl (Nat.le_of_ble_eq_true rfl) rfl ?_
              refine a_goto (tgt := 23) dL_law_2579 (by decide) ?_
              refine aw_pick [3, 4, 5, 6, 0] rfl ?_
              exact ih _ _ h
            · replace h := ifn_ c463 h
              refine a_iconst (v := 0) dL_law_1738 (by decide) ?_
              cases h
        · replace h := ifn_ c460 h
          refine a_iconst (v := 0) dL_law_1721 (by decide) ?_
          cases h
      replace h := ifn_ c446 h
      by_cases c464 : (((xg_x G) x21.toNatClampNeg) &&& 63).toInt = 28
      · replace h := ifp_ c464 h
        refine a_tabIn (tgt := 1743) dL_law_40 (by rw [c464]; decide) (by rw [c464]; decide) (by rw [c464]; rfl) (by decide) ?_
        refine a_aload_n 1 dL_law_1743 rfl rfl ?_
        refine a_aload_n 0 dL_law_1744 rfl rfl ?_
        refine a_iload 4 dL_law_1745 rfl ?_
        refine a_iconst (v := 1) dL_law_1747 (by decide) ?_
        refine a_iadd dL_law_1748 ?_
        obtain ⟨c465, h⟩ := iz_some h
        refine a_sld (bn_ c465) dL_law_1749 ?_
        refine a_aload_n 0 dL_law_1750 rfl rfl ?_
        refine a_iload 4 dL_law_1751 rfl ?_
        refine a_iconst (v := 2) dL_law_1753 (by decide) ?_
        refine a_iadd dL_law_1754 ?_
        obtain ⟨c466, h⟩ := iz_some h
        refine a_sld (bn_ c466) dL_law_1755 ?_
        refine a_aload_n 3 dL_law_1756 rfl rfl ?_
        obtain ⟨v469, m467, e468, h⟩ := bm_some h
        have he468 := e_X0_ask (G := G) hl e468
        refine c_I he468.1 (rn_SH (n := 4) (As := [vR_ (some p13), vI_ ((xg_x G) (x21 + 1).toNatClampNeg), vI_ ((xg_x G) (x21 + 2).toNatClampNeg), vR_ (some p17)]) he468 (lw_SW q1426 q1427 q89 q1428) (by decide +kernel) rfl (by show 169 + 1 ≤ 1000; omega) (Nat.le_of_ble_eq_true rfl) (Nat.le_of_ble_eq_true rfl) dL_law_1757) (fun z => (os_aS (As := [vR_ (some p13), vI_ ((xg_x G) (x21 + 1).toNatClampNeg), vI_ ((xg_x G) (x21 + 2).toNatClampNeg), vR_ (some p17)]) z).2) ?_
        refine a_istore (ls' := [(5, vI_ v469), (0, vR_ (some ((201, 0, 0)))), (1, vR_ (some p13)), (2, vR_ (some p15)), (3, vR_ (some p17)), (4, vI_ x21)]) dL_law_1760 (Nat.le_of_ble_eq_true rfl) rfl ?_
        refine a_aload_n 3 dL_law_1762 rfl rfl ?_
        refine a_aload_n 1 dL_law_1763 rfl rfl ?_
        refine a_iload 5 dL_law_1764 rfl ?_
        refine a_iconst (v := 1) dL_law_1766 (by decide) ?_
        refine a_iadd dL_law_1767 ?_
        obtain ⟨c470, h⟩ := iz_some h
        refine a_sld (bn_ c470) dL_law_1768 ?_
        refine a_aload_n 1 dL_law_1769 rfl rfl ?_
        refine a_iload 5 dL_law_1770 rfl ?_
        refine a_iconst (v := 2) dL_law_1772 (by decide) ?_
        refine a_iadd dL_law_1773 ?_
        obtain ⟨c471, h⟩ := iz_some h
        refine a_sld (bn_ c471) dL_law_1774 ?_
        obtain ⟨v474, m472, e473, h⟩ := bm_some h
        have he473 := e_X8_ask (G := G) hl hf16 e473
        refine c_I he473.1 (rn_V (n := 2) (As := [vI_ ((xg_x G) (x21 + 1).toNatClampNeg), vI_ ((xg_x G) (x21 + 2).toNatClampNeg)]) kc_8 hf16 he473 (lw_V q2094 q2095 q2096 q97 q2097) (by decide +kernel) rfl (by show 7 + 1 ≤ 1000; omega) (Nat.le_of_ble_eq_true rfl) (Nat.le_of_ble_eq_true rfl) dL_law_1775) (fun z => (os_av (As := [vI_ ((xg_x G) (x21 + 1).toNatClampNeg), vI_ ((xg_x G) (x21 + 2).toNatClampNeg)]) z).2.1) ?_
        refine a_istore (ls' := [(6, vI_ v474), (5, vI_ v469), (0, vR_ (some ((201, 0, 0)))), (1, vR_ (some p13)), (2, vR_ (some p15)), (3, vR_ (some p17)), (4, vI_ x21)]) dL_law_1778 (Nat.le_of_ble_eq_true rfl) rfl ?_
        refine a_aload_n 4 dL_law_1780 rfl rfl ?_
        obtain ⟨v477, m475, e476, h⟩ := bm_some h
        have he476 := e_X8_thrown (G := G) hl hf16 e476
        refine c_I he476.1 (rn_V (n := 0) (As := []) kc_8 hf16 he476 (lw_V q1532 q1533 q1534 q97 q1535) (by decide +kernel) rfl (by show 2 + 1 ≤ 1000; omega) (Nat.le_of_ble_eq_true rfl) (Nat.le_of_ble_eq_true rfl) dL_law_1781) (fun z => (os_av (As := []) z).2.1) ?_
        refine a_iload 1 dL_law_1784 rfl ?_
        refine a_icmp_eq (tgt := 1791) dL_law_1786 (by decide) (fun c478 => ?_) (fun c478 => ?_)
        · replace h := ifp_ c478 h
          refine a_iload 1 dL_law_1791 rfl ?_
          refine a_if_ne (tgt := 1808) dL_law_1793 (by decide) (fun c479 => ?_) (fun c479 => ?_)
          · replace h := ifn_ c479 h
            refine a_goto (tgt := 2576) dL_law_1808 (by decide) ?_
            refine a_iinc (v := x21 + 7) (ls' := [(4, vI_ (x21 + 7)), (6, vI_ v474), (5, vI_ v469), (0, vR_ (some ((201, 0, 0)))), (1, vR_ (some p13)), (2, vR_ (some p15)), (3, vR_ (some p17))]) 6 dL_law_2576 rfl rfl (Nat.le_of_ble_eq_true rfl) rfl ?_
            refine a_goto (tgt := 23) dL_law_2579 (by decide) ?_
            refine aw_pick [3, 4, 5, 6, 0] rfl ?_
            exact ih _ _ h
          · replace h := ifp_ c479 h
            refine a_aload_n 5 dL_law_1796 rfl rfl ?_
            refine a_iconst (v := 0) dL_law_1797 (by decide) ?_
            obtain ⟨c480, h⟩ := iz_some h
            refine a_lald hf18 (bn_ c480) dL_law_1798 ?_
            refine a_iload 0 dL_law_1799 rfl ?_
            refine a_i2l dL_law_1801 ?_
            refine a_lcmp dL_law_1802 ?_
            refine a_if_eq (tgt := 1808) dL_law_1803 (by decide) (fun c481 => ?_) (fun c481 => ?_)
            · replace h := ifp_ c481 h
              refine a_goto (tgt := 2576) dL_law_1808 (by decide) ?_
              refine a_iinc (v := x21 + 7) (ls' := [(4, vI_ (x21 + 7)), (6, vI_ v474), (5, vI_ v469), (0, vR_ (some ((201, 0, 0)))), (1, vR_ (some p13)), (2, vR_ (some p15)), (3, vR_ (some p17))]) 6 dL_law_2576 rfl rfl (Nat.le_of_ble_eq_true rfl) rfl ?_
              refine a_goto (tgt := 23) dL_law_2579 (by decide) ?_
              refine aw_pick [3, 4, 5, 6, 0] rfl ?_
              exact ih _ _ h
            · replace h := ifn_ c481 h
              refine a_iconst (v := 0) dL_law_1806 (by decide) ?_
              cases h
        · replace h := ifn_ c478 h
          refine a_iconst (v := 0) dL_law_1789 (by decide) ?_
          cases h
      replace h := ifn_ c464 h
      by_cases c482 : (((xg_x G) x21.toNatClampNeg) &&& 63).toInt = 29
      · replace h := ifp_ c482 h
        refine a_tabIn (tgt := 1811) dL_law_40 (by rw [c482]; decide) (by rw [c482]; decide) (by rw [c482]; rfl) (by decide) ?_
        refine a_aload_n 1 dL_law_1811 rfl rfl ?_
        refine a_aload_n 0 dL_law_1812 rfl rfl ?_
        refine a_iload 4 dL_law_1813 rfl ?_
        refine a_iconst (v := 1) dL_law_1815 (by decide) ?_
        refine a_iadd dL_law_1816 ?_
        obtain ⟨c483, h⟩ := iz_some h
        refine a_sld (bn_ c483) dL_law_1817 ?_
        refine a_aload_n 0 dL_law_1818 rfl rfl ?_
        refine a_iload 4 dL_law_1819 rfl ?_
        refine a_iconst (v := 2) dL_law_1821 (by decide) ?_
        refine a_iadd dL_law_1822 ?_
        obtain ⟨c484, h⟩ := iz_some h
        refine a_sld (bn_ c484) dL_law_1823 ?_
        refine a_aload_n 0 dL_law_1824 rfl rfl ?_
        refine a_iload 4 dL_law_1825 rfl ?_
        refine a_iconst (v := 3) dL_law_1827 (by decide) ?_
        refine a_iadd dL_law_1828 ?_
        obtain ⟨c485, h⟩ := iz_some h
        refine a_sld (bn_ c485) dL_law_1829 ?_
        refine a_aload_n 3 dL_law_1830 rfl rfl ?_
        obtain ⟨v488, m486, e487, h⟩ := bm_some h
        have he487 := e_X0_court (G := G) hl e487
        refine c_I he487.1 (rn_SH (n := 5) (As := [vR_ (some p13), vI_ ((xg_x G) (x21 + 1).toNatClampNeg), vI_ ((xg_x G) (x21 + 2).toNatClampNeg), vI_ ((xg_x G) (x21 + 3).toNatClampNeg), vR_ (some p17)]) he487 (lw_SW q1441 q1442 q89 q1443) (by decide +kernel) rfl (by show 17 + 1 ≤ 1000; omega) (Nat.le_of_ble_eq_true rfl) (Nat.le_of_ble_eq_true rfl) dL_law_1831) (fun z => (os_aS (As := [vR_ (some p13), vI_ ((xg_x G) (x21 + 1).toNatClampNeg), vI_ ((xg_x G) (x21 + 2).toNatClampNeg), vI_ ((xg_x G) (x21 + 3).toNatClampNeg), vR_ (some p17)]) z).2) ?_
        refine a_istore (ls' := [(5, vI_ v488), (0, vR_ (some ((201, 0, 0)))), (1, vR_ (some p13)), (2, vR_ (some p15)), (3, vR_ (some p17)), (4, vI_ x21)]) dL_law_1834 (Nat.le_of_ble_eq_true rfl) rfl ?_
        refine a_aload_n 3 dL_law_1836 rfl rfl ?_
        refine a_aload_n 1 dL_law_1837 rfl rfl ?_
        refine a_iload 5 dL_law_1838 rfl ?_
        refine a_iconst (v := 1) dL_law_1840 (by decide) ?_
        refine a_iadd dL_law_1841 ?_
        obtain ⟨c489, h⟩ := iz_some h
        refine a_sld (bn_ c489) dL_law_1842 ?_
        refine a_aload_n 1 dL_law_1843 rfl rfl ?_
        refine a_iload 5 dL_law_1844 rfl ?_
        refine a_iconst (v := 2) dL_law_1846 (by decide) ?_
        refine a_iadd dL_law_1847 ?_
        obtain ⟨c490, h⟩ := iz_some h
        refine a_sld (bn_ c490) dL_law_1848 ?_
        refine a_aload_n 1 dL_law_1849 rfl rfl ?_
        refine a_iload 5 dL_law_1850 rfl ?_
        refine a_iconst (v := 3) dL_law_1852 (by decide) ?_
        refine a_iadd dL_law_1853 ?_
        obtain ⟨c491, h⟩ := iz_some h
        refine a_sld (bn_ c491) dL_law_1854 ?_
        obtain ⟨v494, m492, e493, h⟩ := bm_some h
        have he493 := e_X8_court (G := G) hl hf16 e493
        refine c_L he493.1 (rn_V (n := 3) (As := [vI_ ((xg_x G) (x21 + 1).toNatClampNeg), vI_ ((xg_x G) (x21 + 2).toNatClampNeg), vI_ ((xg_x G) (x21 + 3).toNatClampNeg)]) kc_8 hf16 he493 (lw_V q2106 q2107 q2108 q97 q2109) (by decide +kernel) rfl (by show 4 + 1 ≤ 1000; omega) (Nat.le_of_ble_eq_true rfl) (Nat.le_of_ble_eq_true rfl) dL_law_1855) (fun z => (os_av (As := [vI_ ((xg_x G) (x21 + 1).toNatClampNeg), vI_ ((xg_x G) (x21 + 2).toNatClampNeg), vI_ ((xg_x G) (x21 + 3).toNatClampNeg)]) z).2.1) ?_
        refine a_lstore (ls' := [(6, vL_ v494), (5, vI_ v488), (0, vR_ (some ((201, 0, 0)))), (1, vR_ (some p13)), (2, vR_ (some p15)), (3, vR_ (some p17)), (4, vI_ x21)]) dL_law_1858 (Nat.le_of_ble_eq_true rfl) rfl ?_
        refine a_aload_n 4 dL_law_1860 rfl rfl ?_
        obtain ⟨v497, m495, e496, h⟩ := bm_some h
        have he496 := e_X8_thrown (G := G) hl hf16 e496
        refine c_I he496.1 (rn_V (n := 0) (As := []) kc_8 hf16 he496 (lw_V q1532 q1533 q1534 q97 q1535) (by decide +kernel) rfl (by show 2 + 1 ≤ 1000; omega) (Nat.le_of_ble_eq_true rfl) (Nat.le_of_ble_eq_true rfl) dL_law_1861) (fun z => (os_av (As := []) z).2.1) ?_
        refine a_iload 1 dL_law_1864 rfl ?_
        refine a_icmp_eq (tgt := 1871) dL_law_1866 (by decide) (fun c498 => ?_) (fun c498 => ?_)
        · replace h := ifp_ c498 h
          refine a_iload 1 dL_law_1871 rfl ?_
          refine a_if_ne (tgt := 1887) dL_law_1873 (by decide) (fun c499 => ?_) (fun c499 => ?_)
          · replace h := ifn_ c499 h
            refine a_goto (tgt := 2576) dL_law_1887 (by decide) ?_
            refine a_iinc (v := x21 + 7) (ls' := [(4, vI_ (x21 + 7)), (6, vL_ v494), (5, vI_ v488), (0, vR_ (some ((201, 0, 0)))), (1, vR_ (some p13)), (2, vR_ (some p15)), (3, vR_ (some p17))]) 6 dL_law_2576 rfl rfl (Nat.le_of_ble_eq_true rfl) rfl ?_
            refine a_goto (tgt := 23) dL_law_2579 (by decide) ?_
            refine aw_pick [3, 4, 5, 6, 0] rfl ?_
            exact ih _ _ h
          · replace h := ifp_ c499 h
            refine a_aload_n 5 dL_law_1876 rfl rfl ?_
            refine a_iconst (v := 0) dL_law_1877 (by decide) ?_
            obtain ⟨c500, h⟩ := iz_some h
            refine a_lald hf18 (bn_ c500) dL_law_1878 ?_
            refine a_lload 0 dL_law_1879 rfl ?_
            refine a_lcmp dL_law_1881 ?_
            refine a_if_eq (tgt := 1887) dL_law_1882 (by decide) (fun c501 => ?_) (fun c501 => ?_)
            · replace h := ifp_ c501 h
              refine a_goto (tgt := 2576) dL_law_1887 (by decide) ?_
              refine a_iinc (v := x21 + 7) (ls' := [(4, vI_ (x21 + 7)), (6, vL_ v494), (5, vI_ v488), (0, vR_ (some ((201, 0, 0)))), (1, vR_ (some p13)), (2, vR_ (some p15)), (3, vR_ (some p17))]) 6 dL_law_2576 rfl rfl (Nat.le_of_ble_eq_true rfl) rfl ?_
              refine a_goto (tgt := 23) dL_law_2579 (by decide) ?_
              refine aw_pick [3, 4, 5, 6, 0] rfl ?_
              exact ih _ _ h
            · replace h := ifn_ c501 h
              refine a_iconst (v := 0) dL_law_1885 (by decide) ?_
              cases h
        · replace h := ifn_ c498 h
          refine a_iconst (v := 0) dL_law_1869 (by decide) ?_
          cases h
      replace h := ifn_ c482 h
      by_cases c502 : (((xg_x G) x21.toNatClampNeg) &&& 63).toInt = 30
      · replace h := ifp_ c502 h
        refine a_tabIn (tgt := 1890) dL_law_40 (by rw [c502]; decide) (by rw [c502]; decide) (by rw [c502]; rfl) (by decide) ?_
        refine a_aload_n 1 dL_law_1890 rfl rfl ?_
        refine a_aload_n 0 dL_law_1891 rfl rfl ?_
        refine a_iload 4 dL_law_1892 rfl ?_
        refine a_iconst (v := 1) dL_law_1894 (by decide) ?_
        refine a_iadd dL_law_1895 ?_
        obtain ⟨c503, h⟩ := iz_some h
        refine a_sld (bn_ c503) dL_law_1896 ?_
        refine a_aload_n 0 dL_law_1897 rfl rfl ?_
        refine a_iload 4 dL_law_1898 rfl ?_
        refine a_iconst (v := 2) dL_law_1900 (by decide) ?_
        refine a_iadd dL_law_1901 ?_
        obtain ⟨c504, h⟩ := iz_some h
        refine a_sld (bn_ c504) dL_law_1902 ?_
        refine a_aload_n 3 dL_law_1903 rfl rfl ?_
        obtain ⟨v507, m505, e506, h⟩ := bm_some h
        have he506 := e_X0_witnesses (G := G) hl e506
        refine c_I he506.1 (rn_SH (n := 4) (As := [vR_ (some p13), vI_ ((xg_x G) (x21 + 1).toNatClampNeg), vI_ ((xg_x G) (x21 + 2).toNatClampNeg), vR_ (some p17)]) he506 (lw_SW q1461 q1462 q89 q1463) (by decide +kernel) rfl (by show 17 + 1 ≤ 1000; omega) (Nat.le_of_ble_eq_true rfl) (Nat.le_of_ble_eq_true rfl) dL_law_1904) (fun z => (os_aS (As := [vR_ (some p13), vI_ ((xg_x G) (x21 + 1).toNatClampNeg), vI_ ((xg_x G) (x21 + 2).toNatClampNeg), vR_ (some p17)]) z).2) ?_
        refine a_istore (ls' := [(5, vI_ v507), (0, vR_ (some ((201, 0, 0)))), (1, vR_ (some p13)), (2, vR_ (some p15)), (3, vR_ (some p17)), (4, vI_ x21)]) dL_law_1907 (Nat.le_of_ble_eq_true rfl) rfl ?_
        refine a_aload_n 3 dL_law_1909 rfl rfl ?_
        refine a_aload_n 1 dL_law_1910 rfl rfl ?_
        refine a_iload 5 dL_law_1911 rfl ?_
        refine a_iconst (v := 1) dL_law_1913 (by decide) ?_
        refine a_iadd dL_law_1914 ?_
        obtain ⟨c508, h⟩ := iz_some h
        refine a_sld (bn_ c508) dL_law_1915 ?_
        refine a_aload_n 1 dL_law_1916 rfl rfl ?_
        refine a_iload 5 dL_law_1917 rfl ?_
        refine a_iconst (v := 2) dL_law_1919 (by decide) ?_
        refine a_iadd dL_law_1920 ?_
        obtain ⟨c509, h⟩ := iz_some h
        refine a_sld (bn_ c509) dL_law_1921 ?_
        obtain ⟨v512, m510, e511, h⟩ := bm_some h
        have he511 := e_X8_witnesses (G := G) hl hf16 e511
        refine c_I he511.1 (rn_V (n := 2) (As := [vI_ ((xg_x G) (x21 + 1).toNatClampNeg), vI_ ((xg_x G) (x21 + 2).toNatClampNeg)]) kc_8 hf16 he511 (lw_V q2120 q2121 q2122 q97 q2123) (by decide +kernel) rfl (by show 4 + 1 ≤ 1000; omega) (Nat.le_of_ble_eq_true rfl) (Nat.le_of_ble_eq_true rfl) dL_law_1922) (fun z => (os_av (As := [vI_ ((xg_x G) (x21 + 1).toNatClampNeg), vI_ ((xg_x G) (x21 + 2).toNatClampNeg)]) z).2.1) ?_
        refine a_istore (ls' := [(6, vI_ v512), (5, vI_ v507), (0, vR_ (some ((201, 0, 0)))), (1, vR_ (some p13)), (2, vR_ (some p15)), (3, vR_ (some p17)), (4, vI_ x21)]) dL_law_1925 (Nat.le_of_ble_eq_true rfl) rfl ?_
        refine a_aload_n 4 dL_law_1927 rfl rfl ?_
        obtain ⟨v515, m513, e514, h⟩ := bm_some h
        have he514 := e_X8_thrown (G := G) hl hf16 e514
        refine c_I he514.1 (rn_V (n := 0) (As := []) kc_8 hf16 he514 (lw_V q1532 q1533 q1534 q97 q1535) (by decide +kernel) rfl (by show 2 + 1 ≤ 1000; omega) (Nat.le_of_ble_eq_true rfl) (Nat.le_of_ble_eq_true rfl) dL_law_1928) (fun z => (os_av (As := []) z).2.1) ?_
        refine a_iload 1 dL_law_1931 rfl ?_
        refine a_icmp_eq (tgt := 1938) dL_law_1933 (by decide) (fun c516 => ?_) (fun c516 => ?_)
        · replace h := ifp_ c516 h
          refine a_iload 1 dL_law_1938 rfl ?_
          refine a_if_ne (tgt := 1955) dL_law_1940 (by decide) (fun c517 => ?_) (fun c517 => ?_)
          · replace h := ifn_ c517 h
            refine a_goto (tgt := 2576) dL_law_1955 (by decide) ?_
            refine a_iinc (v := x21 + 7) (ls' := [(4, vI_ (x21 + 7)), (6, vI_ v512), (5, vI_ v507), (0, vR_ (some ((201, 0, 0)))), (1, vR_ (some p13)), (2, vR_ (some p15)), (3, vR_ (some p17))]) 6 dL_law_2576 rfl rfl (Nat.le_of_ble_eq_true rfl) rfl ?_
            refine a_goto (tgt := 23) dL_law_2579 (by decide) ?_
            refine aw_pick [3, 4, 5, 6, 0] rfl ?_
            exact ih _ _ h
          · replace h := ifp_ c517 h
            refine a_aload_n 5 dL_law_1943 rfl rfl ?_
            refine a_iconst (v := 0) dL_law_1944 (by decide) ?_
            obtain ⟨c518, h⟩ := iz_some h
            refine a_lald hf18 (bn_ c518) dL_law_1945 ?_
            refine a_iload 0 dL_law_1946 rfl ?_
            refine a_i2l dL_law_1948 ?_
            refine a_lcmp dL_law_1949 ?_
            refine a_if_eq (tgt := 1955) dL_law_1950 (by decide) (fun c519 => ?_) (fun c519 => ?_)
            · replace h := ifp_ c519 h
              refine a_goto (tgt := 2576) dL_law_1955 (by decide) ?_
              refine a_iinc (v := x21 + 7) (ls' := [(4, vI_ (x21 + 7)), (6, vI_ v512), (5, vI_ v507), (0, vR_ (some ((201, 0, 0)))), (1, vR_ (some p13)), (2, vR_ (some p15)), (3, vR_ (some p17))]) 6 dL_law_2576 rfl rfl (Nat.le_of_ble_eq_true rfl) rfl ?_
              refine a_goto (tgt := 23) dL_law_2579 (by decide) ?_
              refine aw_pick [3, 4, 5, 6, 0] rfl ?_
              exact ih _ _ h
            · replace h := ifn_ c519 h
              refine a_iconst (v := 0) dL_law_1953 (by decide) ?_
              cases h
        · replace h := ifn_ c516 h
          refine a_iconst (v := 0) dL_law_1936 (by decide) ?_
          cases h
      replace h := ifn_ c502 h
      by_cases c520 : (((xg_x G) x21.toNatClampNeg) &&& 63).toInt = 31
      · replace h := ifp_ c520 h
        refine a_tabIn (tgt := 1958) dL_law_40 (by rw [c520]; decide) (by rw [c520]; decide) (by rw [c520]; rfl) (by decide) ?_
        refine a_aload_n 1 dL_law_1958 rfl rfl ?_
        refine a_aload_n 0 dL_law_1959 rfl rfl ?_
        refine a_iload 4 dL_law_1960 rfl ?_
        refine a_iconst (v := 1) dL_law_1962 (by decide) ?_
        refine a_iadd dL_law_1963 ?_
        obtain ⟨c521, h⟩ := iz_some h
        refine a_sld (bn_ c521) dL_law_1964 ?_
        refine a_aload_n 0 dL_law_1965 rfl rfl ?_
        refine a_iload 4 dL_law_1966 rfl ?_
        refine a_iconst (v := 2) dL_law_1968 (by decide) ?_
        refine a_iadd dL_law_1969 ?_
        obtain ⟨c522, h⟩ := iz_some h
        refine a_sld (bn_ c522) dL_law_1970 ?_
        refine a_aload_n 0 dL_law_1971 rfl rfl ?_
        refine a_iload 4 dL_law_1972 rfl ?_
        refine a_iconst (v := 3) dL_law_1974 (by decide) ?_
        refine a_iadd dL_law_1975 ?_
        obtain ⟨c523, h⟩ := iz_some h
        refine a_sld (bn_ c523) dL_law_1976 ?_
        refine a_aload_n 3 dL_law_1977 rfl rfl ?_
        obtain ⟨v526, m524, e525, h⟩ := bm_some h
        have he525 := e_X0_loan (G := G) hl e525
        refine c_I he525.1 (rn_SH (n := 5) (As := [vR_ (some p13), vI_ ((xg_x G) (x21 + 1).toNatClampNeg), vI_ ((xg_x G) (x21 + 2).toNatClampNeg), vI_ ((xg_x G) (x21 + 3).toNatClampNeg), vR_ (some p17)]) he525 (lw_SW q1469 q1470 q89 q1471) (by decide +kernel) rfl (by show 8 + 1 ≤ 1000; omega) (Nat.le_of_ble_eq_true rfl) (Nat.le_of_ble_eq_true rfl) dL_law_1978) (fun z => (os_aS (As := [vR_ (some p13), vI_ ((xg_x G) (x21 + 1).toNatClampNeg), vI_ ((xg_x G) (x21 + 2).toNatClampNeg), vI_ ((xg_x G) (x21 + 3).toNatClampNeg), vR_ (some p17)]) z).2) ?_
        refine a_istore (ls' := [(5, vI_ v526), (0, vR_ (some ((201, 0, 0)))), (1, vR_ (some p13)), (2, vR_ (some p15)), (3, vR_ (some p17)), (4, vI_ x21)]) dL_law_1981 (Nat.le_of_ble_eq_true rfl) rfl ?_
        refine a_aload_n 3 dL_law_1983 rfl rfl ?_
        refine a_aload_n 1 dL_law_1984 rfl rfl ?_
        refine a_iload 5 dL_law_1985 rfl ?_
        refine a_iconst (v := 1) dL_law_1987 (by decide) ?_
        refine a_iadd dL_law_1988 ?_
        obtain ⟨c527, h⟩ := iz_some h
        refine a_sld (bn_ c527) dL_law_1989 ?_
        refine a_aload_n 1 dL_law_1990 rfl rfl ?_
        refine a_iload 5 dL_law_1991 rfl ?_
        refine a_iconst (v := 2) dL_law_1993 (by decide) ?_
        refine a_iadd dL_law_1994 ?_
        obtain ⟨c528, h⟩ := iz_some h
        refine a_sld (bn_ c528) dL_law_1995 ?_
        refine a_aload_n 1 dL_law_1996 rfl rfl ?_
        refine a_iload 5 dL_law_1997 rfl ?_
        refine a_iconst (v := 3) dL_law_1999 (by decide) ?_
        refine a_iadd dL_law_2000 ?_
        obtain ⟨c529, h⟩ := iz_some h
        refine a_sld (bn_ c529) dL_law_2001 ?_
        obtain ⟨v532, m530, e531, h⟩ := bm_some h
        have he531 := e_X8_loan (G := G) hl hf16 e531
        refine c_I he531.1 (rn_V (n := 3) (As := [vI_ ((xg_x G) (x21 + 1).toNatClampNeg), vI_ ((xg_x G) (x21 + 2).toNatClampNeg), vI_ ((xg_x G) (x21 + 3).toNatClampNeg)]) kc_8 hf16 he531 (lw_V q2124 q2125 q2126 q97 q2127) (by decide +kernel) rfl (by show 3 + 1 ≤ 1000; omega) (Nat.le_of_ble_eq_true rfl) (Nat.le_of_ble_eq_true rfl) dL_law_2002) (fun z => (os_av (As := [vI_ ((xg_x G) (x21 + 1).toNatClampNeg), vI_ ((xg_x G) (x21 + 2).toNatClampNeg), vI_ ((xg_x G) (x21 + 3).toNatClampNeg)]) z).2.1) ?_
        refine a_istore (ls' := [(6, vI_ v532), (5, vI_ v526), (0, vR_ (some ((201, 0, 0)))), (1, vR_ (some p13)), (2, vR_ (some p15)), (3, vR_ (some p17)), (4, vI_ x21)]) dL_law_2005 (Nat.le_of_ble_eq_true rfl) rfl ?_
        refine a_aload_n 4 dL_law_2007 rfl rfl ?_
        obtain ⟨v535, m533, e534, h⟩ := bm_some h
        have he534 := e_X8_thrown (G := G) hl hf16 e534
        refine c_I he534.1 (rn_V (n := 0) (As := []) kc_8 hf16 he534 (lw_V q1532 q1533 q1534 q97 q1535) (by decide +kernel) rfl (by show 2 + 1 ≤ 1000; omega) (Nat.le_of_ble_eq_true rfl) (Nat.le_of_ble_eq_true rfl) dL_law_2008) (fun z => (os_av (As := []) z).2.1) ?_
        refine a_iload 1 dL_law_2011 rfl ?_
        refine a_icmp_eq (tgt := 2018) dL_law_2013 (by decide) (fun c536 => ?_) (fun c536 => ?_)
        · replace h := ifp_ c536 h
          refine a_iload 1 dL_law_2018 rfl ?_
          refine a_if_ne (tgt := 2035) dL_law_2020 (by decide) (fun c537 => ?_) (fun c537 => ?_)
          · replace h := ifn_ c537 h
            refine a_goto (tgt := 2576) dL_law_2035 (by decide) ?_
            refine a_iinc (v := x21 + 7) (ls' := [(4, vI_ (x21 + 7)), (6, vI_ v532), (5, vI_ v526), (0, vR_ (some ((201, 0, 0)))), (1, vR_ (some p13)), (2, vR_ (some p15)), (3, vR_ (some p17))]) 6 dL_law_2576 rfl rfl (Nat.le_of_ble_eq_true rfl) rfl ?_
            refine a_goto (tgt := 23) dL_law_2579 (by decide) ?_
            refine aw_pick [3, 4, 5, 6, 0] rfl ?_
            exact ih _ _ h
          · replace h := ifp_ c537 h
            refine a_aload_n 5 dL_law_2023 rfl rfl ?_
            refine a_iconst (v := 0) dL_law_2024 (by decide) ?_
            obtain ⟨c538, h⟩ := iz_some h
            refine a_lald hf18 (bn_ c538) dL_law_2025 ?_
            refine a_iload 0 dL_law_2026 rfl ?_
            refine a_i2l dL_law_2028 ?_
            refine a_lcmp dL_law_2029 ?_
            refine a_if_eq (tgt := 2035) dL_law_2030 (by decide) (fun c539 => ?_) (fun c539 => ?_)
            · replace h := ifp_ c539 h
              refine a_goto (tgt := 2576) dL_law_2035 (by decide) ?_
              refine a_iinc (v := x21 + 7) (ls' := [(4, vI_ (x21 + 7)), (6, vI_ v532), (5, vI_ v526), (0, vR_ (some ((201, 0, 0)))), (1, vR_ (some p13)), (2, vR_ (some p15)), (3, vR_ (some p17))]) 6 dL_law_2576 rfl rfl (Nat.le_of_ble_eq_true rfl) rfl ?_
              refine a_goto (tgt := 23) dL_law_2579 (by decide) ?_
              refine aw_pick [3, 4, 5, 6, 0] rfl ?_
              exact ih _ _ h
            · replace h := ifn_ c539 h
              refine a_iconst (v := 0) dL_law_2033 (by decide) ?_
              cases h
        · replace h := ifn_ c536 h
          refine a_iconst (v := 0) dL_law_2016 (by decide) ?_
          cases h
      replace h := ifn_ c520 h
      by_cases c540 : (((xg_x G) x21.toNatClampNeg) &&& 63).toInt = 32
      · replace h := ifp_ c540 h
        refine a_tabIn (tgt := 2038) dL_law_40 (by rw [c540]; decide) (by rw [c540]; decide) (by rw [c540]; rfl) (by decide) ?_
        refine a_aload_n 1 dL_law_2038 rfl rfl ?_
        refine a_aload_n 0 dL_law_2039 rfl rfl ?_
        refine a_iload 4 dL_law_2040 rfl ?_
        refine a_iconst (v := 1) dL_law_2042 (by decide) ?_
        refine a_iadd dL_law_2043 ?_
        obtain ⟨c541, h⟩ := iz_some h
        refine a_sld (bn_ c541) dL_law_2044 ?_
        refine a_aload_n 0 dL_law_2045 rfl rfl ?_
        refine a_iload 4 dL_law_2046 rfl ?_
        refine a_iconst (v := 2) dL_law_2048 (by decide) ?_
        refine a_iadd dL_law_2049 ?_
        obtain ⟨c542, h⟩ := iz_some h
        refine a_sld (bn_ c542) dL_law_2050 ?_
        refine a_aload_n 3 dL_law_2051 rfl rfl ?_
        obtain ⟨v545, m543, e544, h⟩ := bm_some h
        have he544 := e_X0_land (G := G) hl e544
        refine c_I he544.1 (rn_SH (n := 4) (As := [vR_ (some p13), vI_ ((xg_x G) (x21 + 1).toNatClampNeg), vI_ ((xg_x G) (x21 + 2).toNatClampNeg), vR_ (some p17)]) he544 (lw_SW q1478 q1479 q89 q1480) (by decide +kernel) rfl (by show 8 + 1 ≤ 1000; omega) (Nat.le_of_ble_eq_true rfl) (Nat.le_of_ble_eq_true rfl) dL_law_2052) (fun z => (os_aS (As := [vR_ (some p13), vI_ ((xg_x G) (x21 + 1).toNatClampNeg), vI_ ((xg_x G) (x21 + 2).toNatClampNeg), vR_ (some p17)]) z).2) ?_
        refine a_istore (ls' := [(5, vI_ v545), (0, vR_ (some ((201, 0, 0)))), (1, vR_ (some p13)), (2, vR_ (some p15)), (3, vR_ (some p17)), (4, vI_ x21)]) dL_law_2055 (Nat.le_of_ble_eq_true rfl) rfl ?_
        refine a_aload_n 3 dL_law_2057 rfl rfl ?_
        refine a_aload_n 1 dL_law_2058 rfl rfl ?_
        refine a_iload 5 dL_law_2059 rfl ?_
        refine a_iconst (v := 1) dL_law_2061 (by decide) ?_
        refine a_iadd dL_law_2062 ?_
        obtain ⟨c546, h⟩ := iz_some h
        refine a_sld (bn_ c546) dL_law_2063 ?_
        refine a_aload_n 1 dL_law_2064 rfl rfl ?_
        refine a_iload 5 dL_law_2065 rfl ?_
        refine a_iconst (v := 2) dL_law_2067 (by decide) ?_
        refine a_iadd dL_law_2068 ?_
        obtain ⟨c547, h⟩ := iz_some h
        refine a_sld (bn_ c547) dL_law_2069 ?_
        obtain ⟨v550, m548, e549, h⟩ := bm_some h
        have he549 := e_X8_land (G := G) hl hf16 e549
        refine c_I he549.1 (rn_V (n := 2) (As := [vI_ ((xg_x G) (x21 + 1).toNatClampNeg), vI_ ((xg_x G) (x21 + 2).toNatClampNeg)]) kc_8 hf16 he549 (lw_V q2130 q2131 q2132 q97 q2133) (by decide +kernel) rfl (by show 4 + 1 ≤ 1000; omega) (Nat.le_of_ble_eq_true rfl) (Nat.le_of_ble_eq_true rfl) dL_law_2070) (fun z => (os_av (As := [vI_ ((xg_x G) (x21 + 1).toNatClampNeg), vI_ ((xg_x G) (x21 + 2).toNatClampNeg)]) z).2.1) ?_
        refine a_istore (ls' := [(6, vI_ v550), (5, vI_ v545), (0, vR_ (some ((201, 0, 0)))), (1, vR_ (some p13)), (2, vR_ (some p15)), (3, vR_ (some p17)), (4, vI_ x21)]) dL_law_2073 (Nat.le_of_ble_eq_true rfl) rfl ?_
        refine a_aload_n 4 dL_law_2075 rfl rfl ?_
        obtain ⟨v553, m551, e552, h⟩ := bm_some h
        have he552 := e_X8_thrown (G := G) hl hf16 e552
        refine c_I he552.1 (rn_V (n := 0) (As := []) kc_8 hf16 he552 (lw_V q1532 q1533 q1534 q97 q1535) (by decide +kernel) rfl (by show 2 + 1 ≤ 1000; omega) (Nat.le_of_ble_eq_true rfl) (Nat.le_of_ble_eq_true rfl) dL_law_2076) (fun z => (os_av (As := []) z).2.1) ?_
        refine a_iload 1 dL_law_2079 rfl ?_
        refine a_icmp_eq (tgt := 2086) dL_law_2081 (by decide) (fun c554 => ?_) (fun c554 => ?_)
        · replace h := ifp_ c554 h
          refine a_iload 1 dL_law_2086 rfl ?_
          refine a_if_ne (tgt := 2103) dL_law_2088 (by decide) (fun c555 => ?_) (fun c555 => ?_)
          · replace h := ifn_ c555 h
            refine a_goto (tgt := 2576) dL_law_2103 (by decide) ?_
            refine a_iinc (v := x21 + 7) (ls' := [(4, vI_ (x21 + 7)), (6, vI_ v550), (5, vI_ v545), (0, vR_ (some ((201, 0, 0)))), (1, vR_ (some p13)), (2, vR_ (some p15)), (3, vR_ (some p17))]) 6 dL_law_2576 rfl rfl (Nat.le_of_ble_eq_true rfl) rfl ?_
            refine a_goto (tgt := 23) dL_law_2579 (by decide) ?_
            refine aw_pick [3, 4, 5, 6, 0] rfl ?_
            exact ih _ _ h
          · replace h := ifp_ c555 h
            refine a_aload_n 5 dL_law_2091 rfl rfl ?_
            refine a_iconst (v := 0) dL_law_2092 (by decide) ?_
            obtain ⟨c556, h⟩ := iz_some h
            refine a_lald hf18 (bn_ c556) dL_law_2093 ?_
            refine a_iload 0 dL_law_2094 rfl ?_
            refine a_i2l dL_law_2096 ?_
            refine a_lcmp dL_law_2097 ?_
            refine a_if_eq (tgt := 2103) dL_law_2098 (by decide) (fun c557 => ?_) (fun c557 => ?_)
            · replace h := ifp_ c557 h
              refine a_goto (tgt := 2576) dL_law_2103 (by decide) ?_
              refine a_iinc (v := x21 + 7) (ls' := [(4, vI_ (x21 + 7)), (6, vI_ v550), (5, vI_ v545), (0, vR_ (some ((201, 0, 0)))), (1, vR_ (some p13)), (2, vR_ (some p15)), (3, vR_ (some p17))]) 6 dL_law_2576 rfl rfl (Nat.le_of_ble_eq_true rfl) rfl ?_
              refine a_goto (tgt := 23) dL_law_2579 (by decide) ?_
              refine aw_pick [3, 4, 5, 6, 0] rfl ?_
              exact ih _ _ h
            · replace h := ifn_ c557 h
              refine a_iconst (v := 0) dL_law_2101 (by decide) ?_
              cases h
        · replace h := ifn_ c554 h
          refine a_iconst (v := 0) dL_law_2084 (by decide) ?_
          cases h
      replace h := ifn_ c540 h
      by_cases c558 : (((xg_x G) x21.toNatClampNeg) &&& 63).toInt = 33
      · replace h := ifp_ c558 h
        refine a_tabIn (tgt := 2106) dL_law_40 (by rw [c558]; decide) (by rw [c558]; decide) (by rw [c558]; rfl) (by decide) ?_
        refine a_aload_n 1 dL_law_2106 rfl rfl ?_
        refine a_aload_n 0 dL_law_2107 rfl rfl ?_
        refine a_iload 4 dL_law_2108 rfl ?_
        refine a_iconst (v := 1) dL_law_2110 (by decide) ?_
        refine a_iadd dL_law_2111 ?_
        obtain ⟨c559, h⟩ := iz_some h
        refine a_sld (bn_ c559) dL_law_2112 ?_
        refine a_aload_n 0 dL_law_2113 rfl rfl ?_
        refine a_iload 4 dL_law_2114 rfl ?_
        refine a_iconst (v := 2) dL_law_2116 (by decide) ?_
        refine a_iadd dL_law_2117 ?_
        obtain ⟨c560, h⟩ := iz_some h
        refine a_sld (bn_ c560) dL_law_2118 ?_
        refine a_aload_n 0 dL_law_2119 rfl rfl ?_
        refine a_iload 4 dL_law_2120 rfl ?_
        refine a_iconst (v := 3) dL_law_2122 (by decide) ?_
        refine a_iadd dL_law_2123 ?_
        obtain ⟨c561, h⟩ := iz_some h
        refine a_sld (bn_ c561) dL_law_2124 ?_
        refine a_aload_n 0 dL_law_2125 rfl rfl ?_
        refine a_iload 4 dL_law_2126 rfl ?_
        refine a_iconst (v := 4) dL_law_2128 (by decide) ?_
        refine a_iadd dL_law_2129 ?_
        obtain ⟨c562, h⟩ := iz_some h
        refine a_sld (bn_ c562) dL_law_2130 ?_
        refine a_aload_n 3 dL_law_2131 rfl rfl ?_
        obtain ⟨v565, m563, e564, h⟩ := bm_some h
        have he564 := e_X0_bids (G := G) hl e564
        refine c_I he564.1 (rn_SH (n := 6) (As := [vR_ (some p13), vI_ ((xg_x G) (x21 + 1).toNatClampNeg), vI_ ((xg_x G) (x21 + 2).toNatClampNeg), vI_ ((xg_x G) (x21 + 3).toNatClampNeg), vI_ ((xg_x G) (x21 + 4).toNatClampNeg), vR_ (some p17)]) he564 (lw_SW q1485 q1486 q89 q1487) (by decide +kernel) rfl (by show 8 + 1 ≤ 1000; omega) (Nat.le_of_ble_eq_true rfl) (Nat.le_of_ble_eq_true rfl) dL_law_2132) (fun z => (os_aS (As := [vR_ (some p13), vI_ ((xg_x G) (x21 + 1).toNatClampNeg), vI_ ((xg_x G) (x21 + 2).toNatClampNeg), vI_ ((xg_x G) (x21 + 3).toNatClampNeg), vI_ ((xg_x G) (x21 + 4).toNatClampNeg), vR_ (some p17)]) z).2) ?_
        refine a_istore (ls' := [(5, vI_ v565), (0, vR_ (some ((201, 0, 0)))), (1, vR_ (some p13)), (2, vR_ (some p15)), (3, vR_ (some p17)), (4, vI_ x21)]) dL_law_2135 (Nat.le_of_ble_eq_true rfl) rfl ?_
        refine a_aload_n 3 dL_law_2137 rfl rfl ?_
        refine a_aload_n 1 dL_law_2138 rfl rfl ?_
        refine a_iload 5 dL_law_2139 rfl ?_
        refine a_iconst (v := 1) dL_law_2141 (by decide) ?_
        refine a_iadd dL_law_2142 ?_
        obtain ⟨c566, h⟩ := iz_some h
        refine a_sld (bn_ c566) dL_law_2143 ?_
        refine a_aload_n 1 dL_law_2144 rfl rfl ?_
        refine a_iload 5 dL_law_2145 rfl ?_
        refine a_iconst (v := 2) dL_law_2147 (by decide) ?_
        refine a_iadd dL_law_2148 ?_
        obtain ⟨c567, h⟩ := iz_some h
        refine a_sld (bn_ c567) dL_law_2149 ?_
        refine a_aload_n 1 dL_law_2150 rfl rfl ?_
        refine a_iload 5 dL_law_2151 rfl ?_
        refine a_iconst (v := 3) dL_law_2153 (by decide) ?_
        refine a_iadd dL_law_2154 ?_
        obtain ⟨c568, h⟩ := iz_some h
        refine a_sld (bn_ c568) dL_law_2155 ?_
        refine a_aload_n 1 dL_law_2156 rfl rfl ?_
        refine a_iload 5 dL_law_2157 rfl ?_
        refine a_iconst (v := 4) dL_law_2159 (by decide) ?_
        refine a_iadd dL_law_2160 ?_
        obtain ⟨c569, h⟩ := iz_some h
        refine a_sld (bn_ c569) dL_law_2161 ?_
        obtain ⟨v572, m570, e571, h⟩ := bm_some h
        have he571 := e_X8_bids (G := G) hl hf16 e571
        refine c_I he571.1 (rn_V (n := 4) (As := [vI_ ((xg_x G) (x21 + 1).toNatClampNeg), vI_ ((xg_x G) (x21 + 2).toNatClampNeg), vI_ ((xg_x G) (x21 + 3).toNatClampNeg), vI_ ((xg_x G) (x21 + 4).toNatClampNeg)]) kc_8 hf16 he571 (lw_V q2134 q2135 q2136 q97 q2137) (by decide +kernel) rfl (by show 4 + 1 ≤ 1000; omega) (Nat.le_of_ble_eq_true rfl) (Nat.le_of_ble_eq_true rfl) dL_law_2162) (fun z => (os_av (As := [vI_ ((xg_x G) (x21 + 1).toNatClampNeg), vI_ ((xg_x G) (x21 + 2).toNatClampNeg), vI_ ((xg_x G) (x21 + 3).toNatClampNeg), vI_ ((xg_x G) (x21 + 4).toNatClampNeg)]) z).2.1) ?_
        refine a_istore (ls' := [(6, vI_ v572), (5, vI_ v565), (0, vR_ (some ((201, 0, 0)))), (1, vR_ (some p13)), (2, vR_ (some p15)), (3, vR_ (some p17)), (4, vI_ x21)]) dL_law_2165 (Nat.le_of_ble_eq_true rfl) rfl ?_
        refine a_aload_n 4 dL_law_2167 rfl rfl ?_
        obtain ⟨v575, m573, e574, h⟩ := bm_some h
        have he574 := e_X8_thrown (G := G) hl hf16 e574
        refine c_I he574.1 (rn_V (n := 0) (As := []) kc_8 hf16 he574 (lw_V q1532 q1533 q1534 q97 q1535) (by decide +kernel) rfl (by show 2 + 1 ≤ 1000; omega) (Nat.le_of_ble_eq_true rfl) (Nat.le_of_ble_eq_true rfl) dL_law_2168) (fun z => (os_av (As := []) z).2.1) ?_
        refine a_iload 1 dL_law_2171 rfl ?_
        refine a_icmp_eq (tgt := 2178) dL_law_2173 (by decide) (fun c576 => ?_) (fun c576 => ?_)
        · replace h := ifp_ c576 h
          refine a_iload 1 dL_law_2178 rfl ?_
          refine a_if_ne (tgt := 2195) dL_law_2180 (by decide) (fun c577 => ?_) (fun c577 => ?_)
          · replace h := ifn_ c577 h
            refine a_goto (tgt := 2576) dL_law_2195 (by decide) ?_
            refine a_iinc (v := x21 + 7) (ls' := [(4, vI_ (x21 + 7)), (6, vI_ v572), (5, vI_ v565), (0, vR_ (some ((201, 0, 0)))), (1, vR_ (some p13)), (2, vR_ (some p15)), (3, vR_ (some p17))]) 6 dL_law_2576 rfl rfl (Nat.le_of_ble_eq_true rfl) rfl ?_
            refine a_goto (tgt := 23) dL_law_2579 (by decide) ?_
            refine aw_pick [3, 4, 5, 6, 0] rfl ?_
            exact ih _ _ h
          · replace h := ifp_ c577 h
            refine a_aload_n 5 dL_law_2183 rfl rfl ?_
            refine a_iconst (v := 0) dL_law_2184 (by decide) ?_
            obtain ⟨c578, h⟩ := iz_some h
            refine a_lald hf18 (bn_ c578) dL_law_2185 ?_
            refine a_iload 0 dL_law_2186 rfl ?_
            refine a_i2l dL_law_2188 ?_
            refine a_lcmp dL_law_2189 ?_
            refine a_if_eq (tgt := 2195) dL_law_2190 (by decide) (fun c579 => ?_) (fun c579 => ?_)
            · replace h := ifp_ c579 h
              refine a_goto (tgt := 2576) dL_law_2195 (by decide) ?_
              refine a_iinc (v := x21 + 7) (ls' := [(4, vI_ (x21 + 7)), (6, vI_ v572), (5, vI_ v565), (0, vR_ (some ((201, 0, 0)))), (1, vR_ (some p13)), (2, vR_ (some p15)), (3, vR_ (some p17))]) 6 dL_law_2576 rfl rfl (Nat.le_of_ble_eq_true rfl) rfl ?_
              refine a_goto (tgt := 23) dL_law_2579 (by decide) ?_
              refine aw_pick [3, 4, 5, 6, 0] rfl ?_
              exact ih _ _ h
            · replace h := ifn_ c579 h
              refine a_iconst (v := 0) dL_law_2193 (by decide) ?_
              cases h
        · replace h := ifn_ c576 h
          refine a_iconst (v := 0) dL_law_2176 (by decide) ?_
          cases h
      replace h := ifn_ c558 h
      by_cases c580 : (((xg_x G) x21.toNatClampNeg) &&& 63).toInt = 34
      · replace h := ifp_ c580 h
        refine a_tabIn (tgt := 2198) dL_law_40 (by rw [c580]; decide) (by rw [c580]; decide) (by rw [c580]; rfl) (by decide) ?_
        refine a_aload_n 1 dL_law_2198 rfl rfl ?_
        refine a_aload_n 0 dL_law_2199 rfl rfl ?_
        refine a_iload 4 dL_law_2200 rfl ?_
        refine a_iconst (v := 1) dL_law_2202 (by decide) ?_
        refine a_iadd dL_law_2203 ?_
        obtain ⟨c581, h⟩ := iz_some h
        refine a_sld (bn_ c581) dL_law_2204 ?_
        refine a_aload_n 0 dL_law_2205 rfl rfl ?_
        refine a_iload 4 dL_law_2206 rfl ?_
        refine a_iconst (v := 2) dL_law_2208 (by decide) ?_
        refine a_iadd dL_law_2209 ?_
        obtain ⟨c582, h⟩ := iz_some h
        refine a_sld (bn_ c582) dL_law_2210 ?_
        refine a_aload_n 0 dL_law_2211 rfl rfl ?_
        refine a_iload 4 dL_law_2212 rfl ?_
        refine a_iconst (v := 3) dL_law_2214 (by decide) ?_
        refine a_iadd dL_law_2215 ?_
        obtain ⟨c583, h⟩ := iz_some h
        refine a_sld (bn_ c583) dL_law_2216 ?_
        refine a_aload_n 3 dL_law_2217 rfl rfl ?_
        obtain ⟨v586, m584, e585, h⟩ := bm_some h
        have he585 := e_X0_has (G := G) hl e585
        refine c_I he585.1 (rn_SH (n := 5) (As := [vR_ (some p13), vI_ ((xg_x G) (x21 + 1).toNatClampNeg), vI_ ((xg_x G) (x21 + 2).toNatClampNeg), vI_ ((xg_x G) (x21 + 3).toNatClampNeg), vR_ (some p17)]) he585 (lw_SW q1498 q1499 q89 q1500) (by decide +kernel) rfl (by show 8 + 1 ≤ 1000; omega) (Nat.le_of_ble_eq_true rfl) (Nat.le_of_ble_eq_true rfl) dL_law_2218) (fun z => (os_aS (As := [vR_ (some p13), vI_ ((xg_x G) (x21 + 1).toNatClampNeg), vI_ ((xg_x G) (x21 + 2).toNatClampNeg), vI_ ((xg_x G) (x21 + 3).toNatClampNeg), vR_ (some p17)]) z).2) ?_
        refine a_istore (ls' := [(5, vI_ v586), (0, vR_ (some ((201, 0, 0)))), (1, vR_ (some p13)), (2, vR_ (some p15)), (3, vR_ (some p17)), (4, vI_ x21)]) dL_law_2221 (Nat.le_of_ble_eq_true rfl) rfl ?_
        refine a_aload_n 3 dL_law_2223 rfl rfl ?_
        refine a_aload_n 1 dL_law_2224 rfl rfl ?_
        refine a_iload 5 dL_law_2225 rfl ?_
        refine a_iconst (v := 1) dL_law_2227 (by decide) ?_
        refine a_iadd dL_law_2228 ?_
        obtain ⟨c587, h⟩ := iz_some h
        refine a_sld (bn_ c587) dL_law_2229 ?_
        refine a_aload_n 1 dL_law_2230 rfl rfl ?_
        refine a_iload 5 dL_law_2231 rfl ?_
        refine a_iconst (v := 2) dL_law_2233 (by decide) ?_
        refine a_iadd dL_law_2234 ?_
        obtain ⟨c588, h⟩ := iz_some h
        refine a_sld (bn_ c588) dL_law_2235 ?_
        refine a_aload_n 1 dL_law_2236 rfl rfl ?_
        refine a_iload 5 dL_law_2237 rfl ?_
        refine a_iconst (v := 3) dL_law_2239 (by decide) ?_
        refine a_iadd dL_law_2240 ?_
        obtain ⟨c589, h⟩ := iz_some h
        refine a_sld (bn_ c589) dL_law_2241 ?_
        obtain ⟨v592, m590, e591, h⟩ := bm_some h
        have he591 := e_X8_has (G := G) hl hf16 e591
        refine c_I he591.1 (rn_V (n := 3) (As := [vI_ ((xg_x G) (x21 + 1).toNatClampNeg), vI_ ((xg_x G) (x21 + 2).toNatClampNeg), vI_ ((xg_x G) (x21 + 3).toNatClampNeg)]) kc_8 hf16 he591 (lw_V q2144 q2145 q2146 q97 q2147) (by decide +kernel) rfl (by show 3 + 1 ≤ 1000; omega) (Nat.le_of_ble_eq_true rfl) (Nat.le_of_ble_eq_true rfl) dL_law_2242) (fun z => (os_av (As := [vI_ ((xg_x G) (x21 + 1).toNatClampNeg), vI_ ((xg_x G) (x21 + 2).toNatClampNeg), vI_ ((xg_x G) (x21 + 3).toNatClampNeg)]) z).2.1) ?_
        refine a_istore (ls' := [(6, vI_ v592), (5, vI_ v586), (0, vR_ (some ((201, 0, 0)))), (1, vR_ (some p13)), (2, vR_ (some p15)), (3, vR_ (some p17)), (4, vI_ x21)]) dL_law_2245 (Nat.le_of_ble_eq_true rfl) rfl ?_
        refine a_aload_n 4 dL_law_2247 rfl rfl ?_
        obtain ⟨v595, m593, e594, h⟩ := bm_some h
        have he594 := e_X8_thrown (G := G) hl hf16 e594
        refine c_I he594.1 (rn_V (n := 0) (As := []) kc_8 hf16 he594 (lw_V q1532 q1533 q1534 q97 q1535) (by decide +kernel) rfl (by show 2 + 1 ≤ 1000; omega) (Nat.le_of_ble_eq_true rfl) (Nat.le_of_ble_eq_true rfl) dL_law_2248) (fun z => (os_av (As := []) z).2.1) ?_
        refine a_iload 1 dL_law_2251 rfl ?_
        refine a_icmp_eq (tgt := 2258) dL_law_2253 (by decide) (fun c596 => ?_) (fun c596 => ?_)
        · replace h := ifp_ c596 h
          refine a_iload 1 dL_law_2258 rfl ?_
          refine a_if_ne (tgt := 2275) dL_law_2260 (by decide) (fun c597 => ?_) (fun c597 => ?_)
          · replace h := ifn_ c597 h
            refine a_goto (tgt := 2576) dL_law_2275 (by decide) ?_
            refine a_iinc (v := x21 + 7) (ls' := [(4, vI_ (x21 + 7)), (6, vI_ v592), (5, vI_ v586), (0, vR_ (some ((201, 0, 0)))), (1, vR_ (some p13)), (2, vR_ (some p15)), (3, vR_ (some p17))]) 6 dL_law_2576 rfl rfl (Nat.le_of_ble_eq_true rfl) rfl ?_
            refine a_goto (tgt := 23) dL_law_2579 (by decide) ?_
            refine aw_pick [3, 4, 5, 6, 0] rfl ?_
            exact ih _ _ h
          · replace h := ifp_ c597 h
            refine a_aload_n 5 dL_law_2263 rfl rfl ?_
            refine a_iconst (v := 0) dL_law_2264 (by decide) ?_
            obtain ⟨c598, h⟩ := iz_some h
            refine a_lald hf18 (bn_ c598) dL_law_2265 ?_
            refine a_iload 0 dL_law_2266 rfl ?_
            refine a_i2l dL_law_2268 ?_
            refine a_lcmp dL_law_2269 ?_
            refine a_if_eq (tgt := 2275) dL_law_2270 (by decide) (fun c599 => ?_) (fun c599 => ?_)
            · replace h := ifp_ c599 h
              refine a_goto (tgt := 2576) dL_law_2275 (by decide) ?_
              refine a_iinc (v := x21 + 7) (ls' := [(4, vI_ (x21 + 7)), (6, vI_ v592), (5, vI_ v586), (0, vR_ (some ((201, 0, 0)))), (1, vR_ (some p13)), (2, vR_ (some p15)), (3, vR_ (some p17))]) 6 dL_law_2576 rfl rfl (Nat.le_of_ble_eq_true rfl) rfl ?_
              refine a_goto (tgt := 23) dL_law_2579 (by decide) ?_
              refine aw_pick [3, 4, 5, 6, 0] rfl ?_
              exact ih _ _ h
            · replace h := ifn_ c599 h
              refine a_iconst (v := 0) dL_law_2273 (by decide) ?_
              cases h
        · replace h := ifn_ c596 h
          refine a_iconst (v := 0) dL_law_2256 (by decide) ?_
          cases h
      replace h := ifn_ c580 h
      by_cases c600 : (((xg_x G) x21.toNatClampNeg) &&& 63).toInt = 35
      · replace h := ifp_ c600 h
        refine a_tabIn (tgt := 2278) dL_law_40 (by rw [c600]; decide) (by rw [c600]; decide) (by rw [c600]; rfl) (by decide) ?_
        refine a_aload_n 1 dL_law_2278 rfl rfl ?_
        refine a_aload_n 0 dL_law_2279 rfl rfl ?_
        refine a_iload 4 dL_law_2280 rfl ?_
        refine a_iconst (v := 1) dL_law_2282 (by decide) ?_
        refine a_iadd dL_law_2283 ?_
        obtain ⟨c601, h⟩ := iz_some h
        refine a_sld (bn_ c601) dL_law_2284 ?_
        refine a_aload_n 0 dL_law_2285 rfl rfl ?_
        refine a_iload 4 dL_law_2286 rfl ?_
        refine a_iconst (v := 2) dL_law_2288 (by decide) ?_
        refine a_iadd dL_law_2289 ?_
        obtain ⟨c602, h⟩ := iz_some h
        refine a_sld (bn_ c602) dL_law_2290 ?_
        refine a_aload_n 0 dL_law_2291 rfl rfl ?_
        refine a_iload 4 dL_law_2292 rfl ?_
        refine a_iconst (v := 3) dL_law_2294 (by decide) ?_
        refine a_iadd dL_law_2295 ?_
        obtain ⟨c603, h⟩ := iz_some h
        refine a_sld (bn_ c603) dL_law_2296 ?_
        refine a_aload_n 0 dL_law_2297 rfl rfl ?_
        refine a_iload 4 dL_law_2298 rfl ?_
        refine a_iconst (v := 4) dL_law_2300 (by decide) ?_
        refine a_iadd dL_law_2301 ?_
        obtain ⟨c604, h⟩ := iz_some h
        refine a_sld (bn_ c604) dL_law_2302 ?_
        refine a_aload_n 0 dL_law_2303 rfl rfl ?_
        refine a_iload 4 dL_law_2304 rfl ?_
        refine a_iconst (v := 5) dL_law_2306 (by decide) ?_
        refine a_iadd dL_law_2307 ?_
        obtain ⟨c605, h⟩ := iz_some h
        refine a_sld (bn_ c605) dL_law_2308 ?_
        refine a_aload_n 3 dL_law_2309 rfl rfl ?_
        obtain ⟨v608, m606, e607, h⟩ := bm_some h
        have he607 := e_X0_voyage (G := G) hl e607
        refine c_I he607.1 (rn_SH (n := 7) (As := [vR_ (some p13), vI_ ((xg_x G) (x21 + 1).toNatClampNeg), vI_ ((xg_x G) (x21 + 2).toNatClampNeg), vI_ ((xg_x G) (x21 + 3).toNatClampNeg), vI_ ((xg_x G) (x21 + 4).toNatClampNeg), vI_ ((xg_x G) (x21 + 5).toNatClampNeg), vR_ (some p17)]) he607 (lw_SW q1505 q1506 q89 q1507) (by decide +kernel) rfl (by show 172 + 1 ≤ 1000; omega) (Nat.le_of_ble_eq_true rfl) (Nat.le_of_ble_eq_true rfl) dL_law_2310) (fun z => (os_aS (As := [vR_ (some p13), vI_ ((xg_x G) (x21 + 1).toNatClampNeg), vI_ ((xg_x G) (x21 + 2).toNatClampNeg), vI_ ((xg_x G) (x21 + 3).toNatClampNeg), vI_ ((xg_x G) (x21 + 4).toNatClampNeg), vI_ ((xg_x G) (x21 + 5).toNatClampNeg), vR_ (some p17)]) z).2) ?_
        refine a_istore (ls' := [(5, vI_ v608), (0, vR_ (some ((201, 0, 0)))), (1, vR_ (some p13)), (2, vR_ (some p15)), (3, vR_ (some p17)), (4, vI_ x21)]) dL_law_2313 (Nat.le_of_ble_eq_true rfl) rfl ?_
        refine a_aload_n 3 dL_law_2315 rfl rfl ?_
        refine a_aload_n 1 dL_law_2316 rfl rfl ?_
        refine a_iload 5 dL_law_2317 rfl ?_
        refine a_iconst (v := 1) dL_law_2319 (by decide) ?_
        refine a_iadd dL_law_2320 ?_
        obtain ⟨c609, h⟩ := iz_some h
        refine a_sld (bn_ c609) dL_law_2321 ?_
        refine a_aload_n 1 dL_law_2322 rfl rfl ?_
        refine a_iload 5 dL_law_2323 rfl ?_
        refine a_iconst (v := 2) dL_law_2325 (by decide) ?_
        refine a_iadd dL_law_2326 ?_
        obtain ⟨c610, h⟩ := iz_some h
        refine a_sld (bn_ c610) dL_law_2327 ?_
        refine a_aload_n 1 dL_law_2328 rfl rfl ?_
        refine a_iload 5 dL_law_2329 rfl ?_
        refine a_iconst (v := 3) dL_law_2331 (by decide) ?_
        refine a_iadd dL_law_2332 ?_
        obtain ⟨c611, h⟩ := iz_some h
        refine a_sld (bn_ c611) dL_law_2333 ?_
        refine a_aload_n 1 dL_law_2334 rfl rfl ?_
        refine a_iload 5 dL_law_2335 rfl ?_
        refine a_iconst (v := 4) dL_law_2337 (by decide) ?_
        refine a_iadd dL_law_2338 ?_
        obtain ⟨c612, h⟩ := iz_some h
        refine a_sld (bn_ c612) dL_law_2339 ?_
        refine a_aload_n 1 dL_law_2340 rfl rfl ?_
        refine a_iload 5 dL_law_2341 rfl ?_
        refine a_iconst (v := 5) dL_law_2343 (by decide) ?_
        refine a_iadd dL_law_2344 ?_
        obtain ⟨c613, h⟩ := iz_some h
        refine a_sld (bn_ c613) dL_law_2345 ?_
        obtain ⟨v616, m614, e615, h⟩ := bm_some h
        have he615 := e_X8_voyage (G := G) hl hf16 e615
        refine c_I he615.1 (rn_V (n := 5) (As := [vI_ ((xg_x G) (x21 + 1).toNatClampNeg), vI_ ((xg_x G) (x21 + 2).toNatClampNeg), vI_ ((xg_x G) (x21 + 3).toNatClampNeg), vI_ ((xg_x G) (x21 + 4).toNatClampNeg), vI_ ((xg_x G) (x21 + 5).toNatClampNeg)]) kc_8 hf16 he615 (lw_V q2148 q2149 q2150 q97 q2151) (by decide +kernel) rfl (by show 10 + 1 ≤ 1000; omega) (Nat.le_of_ble_eq_true rfl) (Nat.le_of_ble_eq_true rfl) dL_law_2346) (fun z => (os_av (As := [vI_ ((xg_x G) (x21 + 1).toNatClampNeg), vI_ ((xg_x G) (x21 + 2).toNatClampNeg), vI_ ((xg_x G) (x21 + 3).toNatClampNeg), vI_ ((xg_x G) (x21 + 4).toNatClampNeg), vI_ ((xg_x G) (x21 + 5).toNatClampNeg)]) z).2.1) ?_
        refine a_istore (ls' := [(6, vI_ v616), (5, vI_ v608), (0, vR_ (some ((201, 0, 0)))), (1, vR_ (some p13)), (2, vR_ (some p15)), (3, vR_ (some p17)), (4, vI_ x21)]) dL_law_2349 (Nat.le_of_ble_eq_true rfl) rfl ?_
        refine a_aload_n 4 dL_law_2351 rfl rfl ?_
        obtain ⟨v619, m617, e618, h⟩ := bm_some h
        have he618 := e_X8_thrown (G := G) hl hf16 e618
        refine c_I he618.1 (rn_V (n := 0) (As := []) kc_8 hf16 he618 (lw_V q1532 q1533 q1534 q97 q1535) (by decide +kernel) rfl (by show 2 + 1 ≤ 1000; omega) (Nat.le_of_ble_eq_true rfl) (Nat.le_of_ble_eq_true rfl) dL_law_2352) (fun z => (os_av (As := []) z).2.1) ?_
        refine a_iload 1 dL_law_2355 rfl ?_
        refine a_icmp_eq (tgt := 2362) dL_law_2357 (by decide) (fun c620 => ?_) (fun c620 => ?_)
        · replace h := ifp_ c620 h
          refine a_iload 1 dL_law_2362 rfl ?_
          refine a_if_ne (tgt := 2379) dL_law_2364 (by decide) (fun c621 => ?_) (fun c621 => ?_)
          · replace h := ifn_ c621 h
            refine a_goto (tgt := 2576) dL_law_2379 (by decide) ?_
            refine a_iinc (v := x21 + 7) (ls' := [(4, vI_ (x21 + 7)), (6, vI_ v616), (5, vI_ v608), (0, vR_ (some ((201, 0, 0)))), (1, vR_ (some p13)), (2, vR_ (some p15)), (3, vR_ (some p17))]) 6 dL_law_2576 rfl rfl (Nat.le_of_ble_eq_true rfl) rfl ?_
            refine a_goto (tgt := 23) dL_law_2579 (by decide) ?_
            refine aw_pick [3, 4, 5, 6, 0] rfl ?_
            exact ih _ _ h
          · replace h := ifp_ c621 h
            refine a_aload_n 5 dL_law_2367 rfl rfl ?_
            refine a_iconst (v := 0) dL_law_2368 (by decide) ?_
            obtain ⟨c622, h⟩ := iz_some h
            refine a_lald hf18 (bn_ c622) dL_law_2369 ?_
            refine a_iload 0 dL_law_2370 rfl ?_
            refine a_i2l dL_law_2372 ?_
            refine a_lcmp dL_law_2373 ?_
            refine a_if_eq (tgt := 2379) dL_law_2374 (by decide) (fun c623 => ?_) (fun c623 => ?_)
            · replace h := ifp_ c623 h
              refine a_goto (tgt := 2576) dL_law_2379 (by decide) ?_
              refine a_iinc (v := x21 + 7) (ls' := [(4, vI_ (x21 + 7)), (6, vI_ v616), (5, vI_ v608), (0, vR_ (some ((201, 0, 0)))), (1, vR_ (some p13)), (2, vR_ (some p15)), (3, vR_ (some p17))]) 6 dL_law_2576 rfl rfl (Nat.le_of_ble_eq_true rfl) rfl ?_
              refine a_goto (tgt := 23) dL_law_2579 (by decide) ?_
              refine aw_pick [3, 4, 5, 6, 0] rfl ?_
              exact ih _ _ h
            · replace h := ifn_ c623 h
              refine a_iconst (v := 0) dL_law_2377 (by decide) ?_
              cases h
        · replace h := ifn_ c620 h
          refine a_iconst (v := 0) dL_law_2360 (by decide) ?_
          cases h
      replace h := ifn_ c600 h
      by_cases c624 : (((xg_x G) x21.toNatClampNeg) &&& 63).toInt = 36
      · replace h := ifp_ c624 h
        refine a_tabIn (tgt := 2382) dL_law_40 (by rw [c624]; decide) (by rw [c624]; decide) (by rw [c624]; rfl) (by decide) ?_
        refine a_aload_n 1 dL_law_2382 rfl rfl ?_
        refine a_aload_n 0 dL_law_2383 rfl rfl ?_
        refine a_iload 4 dL_law_2384 rfl ?_
        refine a_iconst (v := 1) dL_law_2386 (by decide) ?_
        refine a_iadd dL_law_2387 ?_
        obtain ⟨c625, h⟩ := iz_some h
        refine a_sld (bn_ c625) dL_law_2388 ?_
        refine a_aload_n 0 dL_law_2389 rfl rfl ?_
        refine a_iload 4 dL_law_2390 rfl ?_
        refine a_iconst (v := 2) dL_law_2392 (by decide) ?_
        refine a_iadd dL_law_2393 ?_
        obtain ⟨c626, h⟩ := iz_some h
        refine a_sld (bn_ c626) dL_law_2394 ?_
        refine a_aload_n 0 dL_law_2395 rfl rfl ?_
        refine a_iload 4 dL_law_2396 rfl ?_
        refine a_iconst (v := 3) dL_law_2398 (by decide) ?_
        refine a_iadd dL_law_2399 ?_
        obtain ⟨c627, h⟩ := iz_some h
        refine a_sld (bn_ c627) dL_law_2400 ?_
        refine a_aload_n 0 dL_law_2401 rfl rfl ?_
        refine a_iload 4 dL_law_2402 rfl ?_
        refine a_iconst (v := 4) dL_law_2404 (by decide) ?_
        refine a_iadd dL_law_2405 ?_
        obtain ⟨c628, h⟩ := iz_some h
        refine a_sld (bn_ c628) dL_law_2406 ?_
        refine a_aload_n 0 dL_law_2407 rfl rfl ?_
        refine a_iload 4 dL_law_2408 rfl ?_
        refine a_iconst (v := 5) dL_law_2410 (by decide) ?_
        refine a_iadd dL_law_2411 ?_
        obtain ⟨c629, h⟩ := iz_some h
        refine a_sld (bn_ c629) dL_law_2412 ?_
        refine a_aload_n 0 dL_law_2413 rfl rfl ?_
        refine a_iload 4 dL_law_2414 rfl ?_
        refine a_bipush (v := 6) dL_law_2416 (by decide) ?_
        refine a_iadd dL_law_2418 ?_
        obtain ⟨c630, h⟩ := iz_some h
        refine a_sld (bn_ c630) dL_law_2419 ?_
        refine a_aload_n 3 dL_law_2420 rfl rfl ?_
        obtain ⟨v633, m631, e632, h⟩ := bm_some h
        have he632 := e_X0_span (G := G) hl e632
        refine c_I he632.1 (rn_SH (n := 8) (As := [vR_ (some p13), vI_ ((xg_x G) (x21 + 1).toNatClampNeg), vI_ ((xg_x G) (x21 + 2).toNatClampNeg), vI_ ((xg_x G) (x21 + 3).toNatClampNeg), vI_ ((xg_x G) (x21 + 4).toNatClampNeg), vI_ ((xg_x G) (x21 + 5).toNatClampNeg), vI_ ((xg_x G) (x21 + 6).toNatClampNeg), vR_ (some p17)]) he632 (lw_SW q1525 q1526 q89 q1527) (by decide +kernel) rfl (by show 172 + 1 ≤ 1000; omega) (Nat.le_of_ble_eq_true rfl) (Nat.le_of_ble_eq_true rfl) dL_law_2421) (fun z => (os_aS (As := [vR_ (some p13), vI_ ((xg_x G) (x21 + 1).toNatClampNeg), vI_ ((xg_x G) (x21 + 2).toNatClampNeg), vI_ ((xg_x G) (x21 + 3).toNatClampNeg), vI_ ((xg_x G) (x21 + 4).toNatClampNeg), vI_ ((xg_x G) (x21 + 5).toNatClampNeg), vI_ ((xg_x G) (x21 + 6).toNatClampNeg), vR_ (some p17)]) z).2) ?_
        refine a_istore (ls' := [(5, vI_ v633), (0, vR_ (some ((201, 0, 0)))), (1, vR_ (some p13)), (2, vR_ (some p15)), (3, vR_ (some p17)), (4, vI_ x21)]) dL_law_2424 (Nat.le_of_ble_eq_true rfl) rfl ?_
        refine a_aload_n 3 dL_law_2426 rfl rfl ?_
        refine a_aload_n 1 dL_law_2427 rfl rfl ?_
        refine a_iload 5 dL_law_2428 rfl ?_
        refine a_iconst (v := 1) dL_law_2430 (by decide) ?_
        refine a_iadd dL_law_2431 ?_
        obtain ⟨c634, h⟩ := iz_some h
        refine a_sld (bn_ c634) dL_law_2432 ?_
        refine a_aload_n 1 dL_law_2433 rfl rfl ?_
        refine a_iload 5 dL_law_2434 rfl ?_
        refine a_iconst (v := 2) dL_law_2436 (by decide) ?_
        refine a_iadd dL_law_2437 ?_
        obtain ⟨c635, h⟩ := iz_some h
        refine a_sld (bn_ c635) dL_law_2438 ?_
        refine a_aload_n 1 dL_law_2439 rfl rfl ?_
        refine a_iload 5 dL_law_2440 rfl ?_
        refine a_iconst (v := 3) dL_law_2442 (by decide) ?_
        refine a_iadd dL_law_2443 ?_
        obtain ⟨c636, h⟩ := iz_some h
        refine a_sld (bn_ c636) dL_law_2444 ?_
        refine a_aload_n 1 dL_law_2445 rfl rfl ?_
        refine a_iload 5 dL_law_2446 rfl ?_
        refine a_iconst (v := 4) dL_law_2448 (by decide) ?_
        refine a_iadd dL_law_2449 ?_
        obtain ⟨c637, h⟩ := iz_some h
        refine a_sld (bn_ c637) dL_law_2450 ?_
        refine a_aload_n 1 dL_law_2451 rfl rfl ?_
        refine a_iload 5 dL_law_2452 rfl ?_
        refine a_iconst (v := 5) dL_law_2454 (by decide) ?_
        refine a_iadd dL_law_2455 ?_
        obtain ⟨c638, h⟩ := iz_some h
        refine a_sld (bn_ c638) dL_law_2456 ?_
        refine a_aload_n 1 dL_law_2457 rfl rfl ?_
        refine a_iload 5 dL_law_2458 rfl ?_
        refine a_bipush (v := 6) dL_law_2460 (by decide) ?_
        refine a_iadd dL_law_2462 ?_
        obtain ⟨c639, h⟩ := iz_some h
        refine a_sld (bn_ c639) dL_law_2463 ?_
        obtain ⟨v642, m640, e641, h⟩ := bm_some h
        have he641 := e_X8_span (G := G) hl hf16 e641
        refine c_I he641.1 (rn_V (n := 6) (As := [vI_ ((xg_x G) (x21 + 1).toNatClampNeg), vI_ ((xg_x G) (x21 + 2).toNatClampNeg), vI_ ((xg_x G) (x21 + 3).toNatClampNeg), vI_ ((xg_x G) (x21 + 4).toNatClampNeg), vI_ ((xg_x G) (x21 + 5).toNatClampNeg), vI_ ((xg_x G) (x21 + 6).toNatClampNeg)]) kc_8 hf16 he641 (lw_V q2164 q2165 q2166 q97 q2167) (by decide +kernel) rfl (by show 10 + 1 ≤ 1000; omega) (Nat.le_of_ble_eq_true rfl) (Nat.le_of_ble_eq_true rfl) dL_law_2464) (fun z => (os_av (As := [vI_ ((xg_x G) (x21 + 1).toNatClampNeg), vI_ ((xg_x G) (x21 + 2).toNatClampNeg), vI_ ((xg_x G) (x21 + 3).toNatClampNeg), vI_ ((xg_x G) (x21 + 4).toNatClampNeg), vI_ ((xg_x G) (x21 + 5).toNatClampNeg), vI_ ((xg_x G) (x21 + 6).toNatClampNeg)]) z).2.1) ?_
        refine a_istore (ls' := [(6, vI_ v642), (5, vI_ v633), (0, vR_ (some ((201, 0, 0)))), (1, vR_ (some p13)), (2, vR_ (some p15)), (3, vR_ (some p17)), (4, vI_ x21)]) dL_law_2467 (Nat.le_of_ble_eq_true rfl) rfl ?_
        refine a_aload_n 4 dL_law_2469 rfl rfl ?_
        obtain ⟨v645, m643, e644, h⟩ := bm_some h
        have he644 := e_X8_thrown (G := G) hl hf16 e644
        refine c_I he644.1 (rn_V (n := 0) (As := []) kc_8 hf16 he644 (lw_V q1532 q1533 q1534 q97 q1535) (by decide +kernel) rfl (by show 2 + 1 ≤ 1000; omega) (Nat.le_of_ble_eq_true rfl) (Nat.le_of_ble_eq_true rfl) dL_law_2470) (fun z => (os_av (As := []) z).2.1) ?_
        refine a_iload 1 dL_law_2473 rfl ?_
        refine a_icmp_eq (tgt := 2480) dL_law_2475 (by decide) (fun c646 => ?_) (fun c646 => ?_)
        · replace h := ifp_ c646 h
          refine a_iload 1 dL_law_2480 rfl ?_
          refine a_if_ne (tgt := 2497) dL_law_2482 (by decide) (fun c647 => ?_) (fun c647 => ?_)
          · replace h := ifn_ c647 h
            refine a_goto (tgt := 2576) dL_law_2497 (by decide) ?_
            refine a_iinc (v := x21 + 7) (ls' := [(4, vI_ (x21 + 7)), (6, vI_ v642), (5, vI_ v633), (0, vR_ (some ((201, 0, 0)))), (1, vR_ (some p13)), (2, vR_ (some p15)), (3, vR_ (some p17))]) 6 dL_law_2576 rfl rfl (Nat.le_of_ble_eq_true rfl) rfl ?_
            refine a_goto (tgt := 23) dL_law_2579 (by decide) ?_
            refine aw_pick [3, 4, 5, 6, 0] rfl ?_
            exact ih _ _ h
          · replace h := ifp_ c647 h
            refine a_aload_n 5 dL_law_2485 rfl rfl ?_
            refine a_iconst (v := 0) dL_law_2486 (by decide) ?_
            obtain ⟨c648, h⟩ := iz_some h
            refine a_lald hf18 (bn_ c648) dL_law_2487 ?_
            refine a_iload 0 dL_law_2488 rfl ?_
            refine a_i2l dL_law_2490 ?_
            refine a_lcmp dL_law_2491 ?_
            refine a_if_eq (tgt := 2497) dL_law_2492 (by decide) (fun c649 => ?_) (fun c649 => ?_)
            · replace h := ifp_ c649 h
              refine a_goto (tgt := 2576) dL_law_2497 (by decide) ?_
              refine a_iinc (v := x21 + 7) (ls' := [(4, vI_ (x21 + 7)), (6, vI_ v642), (5, vI_ v633), (0, vR_ (some ((201, 0, 0)))), (1, vR_ (some p13)), (2, vR_ (some p15)), (3, vR_ (some p17))]) 6 dL_law_2576 rfl rfl (Nat.le_of_ble_eq_true rfl) rfl ?_
              refine a_goto (tgt := 23) dL_law_2579 (by decide) ?_
              refine aw_pick [3, 4, 5, 6, 0] rfl ?_
              exact ih _ _ h
            · replace h := ifn_ c649 h
              refine a_iconst (v := 0) dL_law_2495 (by decide) ?_
              cases h
        · replace h := ifn_ c646 h
          refine a_iconst (v := 0) dL_law_2478 (by decide) ?_
          cases h
      replace h := ifn_ c624 h
      by_cases c650 : (((xg_x G) x21.toNatClampNeg) &&& 63).toInt = 37
      · replace h := ifp_ c650 h
        refine a_tabIn (tgt := 2500) dL_law_40 (by rw [c650]; decide) (by rw [c650]; decide) (by rw [c650]; rfl) (by decide) ?_
        refine a_aload_n 1 dL_law_2500 rfl rfl ?_
        obtain ⟨v653, m651, e652, h⟩ := bm_some h
        have he652 := e_X1_image (G := G) hl hf14 e652
        refine c_I he652.1 (rn_V (n := 0) (As := []) kc_1 hf14 he652 (lw_V q542 q543 q544 q90 q545) (by decide +kernel) rfl (by show 5 + 1 ≤ 1000; omega) (Nat.le_of_ble_eq_true rfl) (Nat.le_of_ble_eq_true rfl) dL_law_2501) (fun z => (os_av (As := []) z).2.1) ?_
        refine a_aload_n 2 dL_law_2504 rfl rfl ?_
        obtain ⟨v656, m654, e655, h⟩ := bm_some h
        have he655 := e_X8_image (G := G) hl hf16 e655
        refine c_I he655.1 (rn_V (n := 0) (As := []) kc_8 hf16 he655 (lw_V q2168 q2169 q2170 q97 q2171) (by decide +kernel) rfl (by show 4 + 1 ≤ 1000; omega) (Nat.le_of_ble_eq_true rfl) (Nat.le_of_ble_eq_true rfl) dL_law_2505) (fun z => (os_av (As := []) z).2.1) ?_
        refine a_icmp_eq (tgt := 2576) dL_law_2508 (by decide) (fun c657 => ?_) (fun c657 => ?_)
        · replace h := ifp_ c657 h
          refine a_iinc (v := x21 + 7) (ls' := [(4, vI_ (x21 + 7)), (0, vR_ (some ((201, 0, 0)))), (1, vR_ (some p13)), (2, vR_ (some p15)), (3, vR_ (some p17))]) 4 dL_law_2576 rfl rfl (Nat.le_of_ble_eq_true rfl) rfl ?_
          refine a_goto (tgt := 23) dL_law_2579 (by decide) ?_
          refine aw_pick [1, 2, 3, 4, 0] rfl ?_
          exact ih _ _ h
        · replace h := ifn_ c657 h
          refine a_iconst (v := 0) dL_law_2511 (by decide) ?_
          cases h
      replace h := ifn_ c650 h
      by_cases c658 : (((xg_x G) x21.toNatClampNeg) &&& 63).toInt = 38
      · replace h := ifp_ c658 h
        refine a_tabIn (tgt := 2513) dL_law_40 (by rw [c658]; decide) (by rw [c658]; decide) (by rw [c658]; rfl) (by decide) ?_
        refine a_aload_n 1 dL_law_2513 rfl rfl ?_
        obtain ⟨v661, m659, e660, h⟩ := bm_some h
        have he660 := e_X1_restore (G := G) hl hf14 e660
        refine c_I he660.1 (rn_V (n := 0) (As := []) kc_1 hf14 he660 (lw_V q560 q561 q562 q90 q563) (by decide +kernel) rfl (by show 5 + 1 ≤ 1000; omega) (Nat.le_of_ble_eq_true rfl) (Nat.le_of_ble_eq_true rfl) dL_law_2514) (fun z => (os_av (As := []) z).2.1) ?_
        refine a_aload_n 2 dL_law_2517 rfl rfl ?_
        obtain ⟨v664, m662, e663, h⟩ := bm_some h
        have he663 := e_X8_restore (G := G) hl hf16 e663
        refine c_I he663.1 (rn_V (n := 0) (As := []) kc_8 hf16 he663 (lw_V q2180 q2181 q2182 q97 q2183) (by decide +kernel) rfl (by show 4 + 1 ≤ 1000; omega) (Nat.le_of_ble_eq_true rfl) (Nat.le_of_ble_eq_true rfl) dL_law_2518) (fun z => (os_av (As := []) z).2.1) ?_
        refine a_icmp_eq (tgt := 2576) dL_law_2521 (by decide) (fun c665 => ?_) (fun c665 => ?_)
        · replace h := ifp_ c665 h
          refine a_iinc (v := x21 + 7) (ls' := [(4, vI_ (x21 + 7)), (0, vR_ (some ((201, 0, 0)))), (1, vR_ (some p13)), (2, vR_ (some p15)), (3, vR_ (some p17))]) 4 dL_law_2576 rfl rfl (Nat.le_of_ble_eq_true rfl) rfl ?_
          refine a_goto (tgt := 23) dL_law_2579 (by decide) ?_
          refine aw_pick [1, 2, 3, 4, 0] rfl ?_
          exact ih _ _ h
        · replace h := ifn_ c665 h
          refine a_iconst (v := 0) dL_law_2524 (by decide) ?_
          cases h
      replace h := ifn_ c658 h
      by_cases c666 : (((xg_x G) x21.toNatClampNeg) &&& 63).toInt = 39
      · replace h := ifp_ c666 h
        refine a_tabIn (tgt := 2526) dL_law_40 (by rw [c666]; decide) (by rw [c666]; decide) (by rw [c666]; rfl) (by decide) ?_
        refine a_aload_n 1 dL_law_2526 rfl rfl ?_
        refine a_aload_n 0 dL_law_2527 rfl rfl ?_
        refine a_iload 4 dL_law_2528 rfl ?_
        refine a_iconst (v := 1) dL_law_2530 (by decide) ?_
        refine a_iadd dL_law_2531 ?_
        obtain ⟨c667, h⟩ := iz_some h
        refine a_sld (bn_ c667) dL_law_2532 ?_
        obtain ⟨v670, m668, e669, h⟩ := bm_some h
        have he669 := e_X1_status (G := G) hl hf14 e669
        refine c_I he669.1 (rn_V (n := 1) (As := [vI_ ((xg_x G) (x21 + 1).toNatClampNeg)]) kc_1 hf14 he669 (lw_V q564 q565 q566 q90 q567) (by decide +kernel) rfl (by show 2 + 1 ≤ 1000; omega) (Nat.le_of_ble_eq_true rfl) (Nat.le_of_ble_eq_true rfl) dL_law_2533) (fun z => (os_av (As := [vI_ ((xg_x G) (x21 + 1).toNatClampNeg)]) z).2.1) ?_
        refine a_aload_n 2 dL_law_2536 rfl rfl ?_
        refine a_aload_n 0 dL_law_2537 rfl rfl ?_
        refine a_iload 4 dL_law_2538 rfl ?_
        refine a_iconst (v := 1) dL_law_2540 (by decide) ?_
        refine a_iadd dL_law_2541 ?_
        obtain ⟨c671, h⟩ := iz_some h
        refine a_sld (bn_ c671) dL_law_2542 ?_
        obtain ⟨v674, m672, e673, h⟩ := bm_some h
        have he673 := e_X8_status (G := G) hl hf16 e673
        refine c_I he673.1 (rn_V (n := 1) (As := [vI_ ((xg_x G) (x21 + 1).toNatClampNeg)]) kc_8 hf16 he673 (lw_V q2184 q2185 q2186 q97 q2187) (by decide +kernel) rfl (by show 3 + 1 ≤ 1000; omega) (Nat.le_of_ble_eq_true rfl) (Nat.le_of_ble_eq_true rfl) dL_law_2543) (fun z => (os_av (As := [vI_ ((xg_x G) (x21 + 1).toNatClampNeg)]) z).2.1) ?_
        refine a_icmp_eq (tgt := 2576) dL_law_2546 (by decide) (fun c675 => ?_) (fun c675 => ?_)
        · replace h := ifp_ c675 h
          refine a_iinc (v := x21 + 7) (ls' := [(4, vI_ (x21 + 7)), (0, vR_ (some ((201, 0, 0)))), (1, vR_ (some p13)), (2, vR_ (some p15)), (3, vR_ (some p17))]) 4 dL_law_2576 rfl rfl (Nat.le_of_ble_eq_true rfl) rfl ?_
          refine a_goto (tgt := 23) dL_law_2579 (by decide) ?_
          refine aw_pick [1, 2, 3, 4, 0] rfl ?_
          exact ih _ _ h
        · replace h := ifn_ c675 h
          refine a_iconst (v := 0) dL_law_2549 (by decide) ?_
          cases h
      replace h := ifn_ c666 h
      by_cases c676 : (((xg_x G) x21.toNatClampNeg) &&& 63).toInt = 40
      · replace h := ifp_ c676 h
        refine a_tabIn (tgt := 2551) dL_law_40 (by rw [c676]; decide) (by rw [c676]; decide) (by rw [c676]; rfl) (by decide) ?_
        refine a_aload_n 1 dL_law_2551 rfl rfl ?_
        refine a_aload_n 0 dL_law_2552 rfl rfl ?_
        refine a_iload 4 dL_law_2553 rfl ?_
        refine a_iconst (v := 1) dL_law_2555 (by decide) ?_
        refine a_iadd dL_law_2556 ?_
        obtain ⟨c677, h⟩ := iz_some h
        refine a_sld (bn_ c677) dL_law_2557 ?_
        obtain ⟨v680, m678, e679, h⟩ := bm_some h
        have he679 := e_X1_count (G := G) hl hf14 e679
        refine c_I he679.1 (rn_V (n := 1) (As := [vI_ ((xg_x G) (x21 + 1).toNatClampNeg)]) kc_1 hf14 he679 (lw_V q568 q569 q570 q90 q571) (by decide +kernel) rfl (by show 2 + 1 ≤ 1000; omega) (Nat.le_of_ble_eq_true rfl) (Nat.le_of_ble_eq_true rfl) dL_law_2558) (fun z => (os_av (As := [vI_ ((xg_x G) (x21 + 1).toNatClampNeg)]) z).2.1) ?_
        refine a_aload_n 2 dL_law_2561 rfl rfl ?_
        refine a_aload_n 0 dL_law_2562 rfl rfl ?_
        refine a_iload 4 dL_law_2563 rfl ?_
        refine a_iconst (v := 1) dL_law_2565 (by decide) ?_
        refine a_iadd dL_law_2566 ?_
        obtain ⟨c681, h⟩ := iz_some h
        refine a_sld (bn_ c681) dL_law_2567 ?_
        obtain ⟨v684, m682, e683, h⟩ := bm_some h
        have he683 := e_X8_count (G := G) hl hf16 e683
        refine c_I he683.1 (rn_V (n := 1) (As := [vI_ ((xg_x G) (x21 + 1).toNatClampNeg)]) kc_8 hf16 he683 (lw_V q2188 q2189 q2190 q97 q2191) (by decide +kernel) rfl (by show 2 + 1 ≤ 1000; omega) (Nat.le_of_ble_eq_true rfl) (Nat.le_of_ble_eq_true rfl) dL_law_2568) (fun z => (os_av (As := [vI_ ((xg_x G) (x21 + 1).toNatClampNeg)]) z).2.1) ?_
        refine a_icmp_eq (tgt := 2576) dL_law_2571 (by decide) (fun c685 => ?_) (fun c685 => ?_)
        · replace h := ifp_ c685 h
          refine a_iinc (v := x21 + 7) (ls' := [(4, vI_ (x21 + 7)), (0, vR_ (some ((201, 0, 0)))), (1, vR_ (some p13)), (2, vR_ (some p15)), (3, vR_ (some p17))]) 4 dL_law_2576 rfl rfl (Nat.le_of_ble_eq_true rfl) rfl ?_
          refine a_goto (tgt := 23) dL_law_2579 (by decide) ?_
          refine aw_pick [1, 2, 3, 4, 0] rfl ?_
          exact ih _ _ h
        · replace h := ifn_ c685 h
          refine a_iconst (v := 0) dL_law_2574 (by decide) ?_
          cases h
      replace h := ifn_ c676 h
      refine a_tabOut (tgt := 2576) dL_law_40 (by dsimp only [kx_G]; omega) (by decide) ?_
      refine a_iinc (v := x21 + 7) (ls' := [(4, vI_ (x21 + 7)), (0, vR_ (some ((201, 0, 0)))), (1, vR_ (some p13)), (2, vR_ (some p15)), (3, vR_ (some p17))]) 4 dL_law_2576 rfl rfl (Nat.le_of_ble_eq_true rfl) rfl ?_
      refine a_goto (tgt := 23) dL_law_2579 (by decide) ?_
      refine aw_pick [1, 2, 3, 4, 0] rfl ?_
      exact ih _ _ h
def f_law (F : Nat) (sx_ : Nat → Int32) (sN_ : Nat) (m : pm_M) : Option (Unit × pm_M) :=
  lt_ (pN_ m 1 0 19) fun m1 =>
  bm_ (f_X1_init F ((1, 0, gN_ m)) m1) fun v5 m3 =>
  lt_ (pN_ m3 8 0 59) fun m6 =>
  bm_ (f_X8_init F ((8, 0, gN_ m3)) m6) fun v10 m8 =>
  lt_ (pN_ m8 103 1 1) fun m11 =>
  f_L_law_L23 F sx_ sN_ ((1, 0, gN_ m)) ((8, 0, gN_ m3)) ((103, 1, gN_ m8)) F 0 m11
set_option maxHeartbeats 4000000 in
theorem e_law {nm9 : String} {tb9 : List (Nat × Nat × Nat × Nat)} {G : xg_T} {l : Launch} (hl : l.stackTraces = false) {F : Nat} {m0 m' : pm_M} {r : Unit} (hbF : gN_ m' ≤ 601024 ∧ gS_ m' ≤ 7293034) (h : f_law F (xg_x G) (xg_L G) m0 = some (r, m')) : AW_ cL_law RX0 (some .boolean, nm9, 1000, 8, m0, eE_, (.inl none), G, l, tb9, false) m0 0 [(0, vR_ (some ((201, 0, 0))))] [] := by
  unfold f_law at h
  obtain ⟨m1, e2, h⟩ := lt_some h
  refine a_new kc_1 q126 q127 q90 dL_law_0 ?_
  rw [← e2]
  refine a_dup dL_law_3 rfl ?_
  obtain ⟨v5, m3, e4, h⟩ := bm_some h
  have he4 := e_X1_init (G := G) hl rfl e4
  refine c_V he4.1 (rn_I (n := 0) (As := []) he4 q128 q129 q90 q130 rfl (by decide +kernel) rfl (by show 5 + 1 ≤ 1000; omega) (Nat.le_of_ble_eq_true rfl) (Nat.le_of_ble_eq_true rfl) dL_law_4) (fun z => (os_av (As := []) z).2.1) ?_
  refine a_astore_n (ls' := [(1, vR_ (some ((1, 0, gN_ m0)))), (0, vR_ (some ((201, 0, 0))))]) dL_law_7 rfl (Nat.le_of_ble_eq_true rfl) rfl ?_
  obtain ⟨m6, e7, h⟩ := lt_some h
  refine a_new kc_8 q1536 q1537 q97 dL_law_8 ?_
  rw [← e7]
  refine a_dup dL_law_11 rfl ?_
  obtain ⟨v10, m8, e9, h⟩ := bm_some h
  have he9 := e_X8_init (G := G) hl rfl e9
  refine c_V he9.1 (rn_I (n := 0) (As := []) he9 q1538 q1539 q97 q1540 rfl (by decide +kernel) rfl (by show 4 + 1 ≤ 1000; omega) (Nat.le_of_ble_eq_true rfl) (Nat.le_of_ble_eq_true rfl) dL_law_12) (fun z => (os_av (As := []) z).2.1) ?_
  refine a_astore_n (ls' := [(2, vR_ (some ((8, 0, gN_ m3)))), (1, vR_ (some ((1, 0, gN_ m0)))), (0, vR_ (some ((201, 0, 0))))]) dL_law_15 rfl (Nat.le_of_ble_eq_true rfl) rfl ?_
  refine a_iconst (v := 1) dL_law_16 (by decide) ?_
  obtain ⟨m11, e12, h⟩ := lt_some h
  refine a_newL (N := 1) q2192 (by decide) rfl (by decide) dL_law_17 ?_
  rw [← e12]
  refine a_astore_n (ls' := [(3, vR_ (some ((103, 1, gN_ m8)))), (2, vR_ (some ((8, 0, gN_ m3)))), (1, vR_ (some ((1, 0, gN_ m0)))), (0, vR_ (some ((201, 0, 0))))]) dL_law_19 rfl (Nat.le_of_ble_eq_true rfl) rfl ?_
  refine a_iconst (v := 0) dL_law_20 (by decide) ?_
  refine a_istore (ls' := [(4, vI_ 0), (3, vR_ (some ((103, 1, gN_ m8)))), (2, vR_ (some ((8, 0, gN_ m3)))), (1, vR_ (some ((1, 0, gN_ m0)))), (0, vR_ (some ((201, 0, 0))))]) dL_law_21 (Nat.le_of_ble_eq_true rfl) rfl ?_
  refine aw_pick [4, 3, 2, 1, 0] rfl ?_
  exact w_L_law_L23 hl _ _ _ hbF rfl rfl rfl _ _ _ h
