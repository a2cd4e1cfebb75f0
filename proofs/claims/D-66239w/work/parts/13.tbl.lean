/-! PART 13 (printed by wip/gen/gen13.py): the table of methods; fields, makings and calls by name -/
set_option maxRecDepth 100000
abbrev zy0 : Jvm.MethodName := ({ cls := "QuotaPeers", name := "isLetter", desc := "(I)Z" } : Jvm.MethodName)
abbrev zy1 : Jvm.MethodName := ({ cls := "QuotaPeers", name := "<init>", desc := "()V" } : Jvm.MethodName)
abbrev zy2 : Jvm.MethodName := ({ cls := "QuotaPeers", name := "isIn", desc := "(JJJ)Z" } : Jvm.MethodName)
abbrev zy3 : Jvm.MethodName := ({ cls := "QuotaPeers", name := "sign", desc := "(I)I" } : Jvm.MethodName)
abbrev zy4 : Jvm.MethodName := ({ cls := "QuotaPeers", name := "own", desc := "()I" } : Jvm.MethodName)
abbrev zy5 : Jvm.MethodName := ({ cls := "QuotaPeers", name := "peer", desc := "(Z)I" } : Jvm.MethodName)
abbrev zy6 : Jvm.MethodName := ({ cls := "QuotaPeers", name := "peerAt", desc := "(I)LQuotaPeers$Peer;" } : Jvm.MethodName)
abbrev zy7 : Jvm.MethodName := ({ cls := "QuotaPeers", name := "linkAt", desc := "(I)LQuotaPeers$Link;" } : Jvm.MethodName)
abbrev zy8 : Jvm.MethodName := ({ cls := "QuotaPeers", name := "spare", desc := "()LQuotaPeers$Link;" } : Jvm.MethodName)
abbrev zy9 : Jvm.MethodName := ({ cls := "QuotaPeers", name := "send", desc := "(LQuotaPeers$Link;)V" } : Jvm.MethodName)
abbrev zy10 : Jvm.MethodName := ({ cls := "QuotaPeers", name := "request", desc := "(IIII)V" } : Jvm.MethodName)
abbrev zy11 : Jvm.MethodName := ({ cls := "QuotaPeers", name := "origin", desc := "()V" } : Jvm.MethodName)
abbrev zy12 : Jvm.MethodName := ({ cls := "QuotaPeers", name := "capabilities", desc := "()V" } : Jvm.MethodName)
abbrev zy13 : Jvm.MethodName := ({ cls := "QuotaPeers", name := "sendOpening", desc := "(LQuotaPeers$Peer;)V" } : Jvm.MethodName)
abbrev zy14 : Jvm.MethodName := ({ cls := "QuotaPeers", name := "sendWatch", desc := "(LQuotaPeers$Peer;)V" } : Jvm.MethodName)
abbrev zy15 : Jvm.MethodName := ({ cls := "QuotaPeers", name := "answerHead", desc := "(IIIIII)V" } : Jvm.MethodName)
abbrev zy16 : Jvm.MethodName := ({ cls := "QuotaPeers", name := "answer", desc := "(LQuotaPeers$Message;I)V" } : Jvm.MethodName)
abbrev zy17 : Jvm.MethodName := ({ cls := "QuotaPeers", name := "answerWrong", desc := "(LQuotaPeers$Link;LQuotaPeers$Message;)V" } : Jvm.MethodName)
abbrev zy18 : Jvm.MethodName := ({ cls := "QuotaPeers", name := "answerPlain", desc := "(LQuotaPeers$Link;LQuotaPeers$Message;I)V" } : Jvm.MethodName)
abbrev zy19 : Jvm.MethodName := ({ cls := "QuotaPeers", name := "answerCame", desc := "(LQuotaPeers$Peer;)V" } : Jvm.MethodName)
abbrev zy20 : Jvm.MethodName := ({ cls := "QuotaPeers", name := "closeOwn", desc := "(LQuotaPeers$Peer;)V" } : Jvm.MethodName)
abbrev zy21 : Jvm.MethodName := ({ cls := "QuotaPeers", name := "closeCame", desc := "(LQuotaPeers$Peer;)V" } : Jvm.MethodName)
abbrev zy22 : Jvm.MethodName := ({ cls := "QuotaPeers", name := "enter", desc := "(LQuotaPeers$Peer;I)V" } : Jvm.MethodName)
abbrev zy23 : Jvm.MethodName := ({ cls := "QuotaPeers", name := "comeUp", desc := "(LQuotaPeers$Peer;)V" } : Jvm.MethodName)
abbrev zy24 : Jvm.MethodName := ({ cls := "QuotaPeers", name := "leave", desc := "(LQuotaPeers$Peer;)V" } : Jvm.MethodName)
abbrev zy25 : Jvm.MethodName := ({ cls := "QuotaPeers", name := "shut", desc := "(LQuotaPeers$Peer;)V" } : Jvm.MethodName)
abbrev zy26 : Jvm.MethodName := ({ cls := "QuotaPeers", name := "opened", desc := "(LQuotaPeers$Peer;)V" } : Jvm.MethodName)
abbrev zy27 : Jvm.MethodName := ({ cls := "QuotaPeers", name := "choose", desc := "(LQuotaPeers$Peer;)V" } : Jvm.MethodName)
abbrev zy28 : Jvm.MethodName := ({ cls := "QuotaPeers", name := "end", desc := "(LQuotaPeers$Link;)V" } : Jvm.MethodName)
abbrev zy29 : Jvm.MethodName := ({ cls := "QuotaPeers", name := "begin", desc := "(LQuotaPeers$Peer;LQuotaPeers$Link;)V" } : Jvm.MethodName)
abbrev zy30 : Jvm.MethodName := ({ cls := "QuotaPeers", name := "start", desc := "(I)I" } : Jvm.MethodName)
abbrev zy31 : Jvm.MethodName := ({ cls := "QuotaPeers", name := "accept", desc := "()I" } : Jvm.MethodName)
abbrev zy32 : Jvm.MethodName := ({ cls := "QuotaPeers", name := "connected", desc := "(IZ)I" } : Jvm.MethodName)
abbrev zy33 : Jvm.MethodName := ({ cls := "QuotaPeers", name := "gone", desc := "(I)I" } : Jvm.MethodName)
abbrev zy34 : Jvm.MethodName := ({ cls := "QuotaPeers", name := "stop", desc := "(II)I" } : Jvm.MethodName)
abbrev zy35 : Jvm.MethodName := ({ cls := "QuotaPeers", name := "feed", desc := "(IJJJJI)I" } : Jvm.MethodName)
abbrev zy36 : Jvm.MethodName := ({ cls := "QuotaPeers", name := "hear", desc := "(LQuotaPeers$Link;LQuotaPeers$Message;)V" } : Jvm.MethodName)
abbrev zy37 : Jvm.MethodName := ({ cls := "QuotaPeers", name := "isAnswer", desc := "(LQuotaPeers$Message;II)Z" } : Jvm.MethodName)
abbrev zy38 : Jvm.MethodName := ({ cls := "QuotaPeers", name := "strange", desc := "(LQuotaPeers$Link;LQuotaPeers$Message;)V" } : Jvm.MethodName)
abbrev zy39 : Jvm.MethodName := ({ cls := "QuotaPeers", name := "speaks", desc := "(LQuotaPeers$Message;)Z" } : Jvm.MethodName)
abbrev zy40 : Jvm.MethodName := ({ cls := "QuotaPeers", name := "asking", desc := "(LQuotaPeers$Peer;LQuotaPeers$Message;)V" } : Jvm.MethodName)
abbrev zy41 : Jvm.MethodName := ({ cls := "QuotaPeers", name := "isHeard", desc := "(LQuotaPeers$Peer;LQuotaPeers$Message;)Z" } : Jvm.MethodName)
abbrev zy42 : Jvm.MethodName := ({ cls := "QuotaPeers", name := "timer", desc := "(LQuotaPeers$Peer;)V" } : Jvm.MethodName)
abbrev zy43 : Jvm.MethodName := ({ cls := "QuotaPeers", name := "usable", desc := "()LQuotaPeers$Peer;" } : Jvm.MethodName)
abbrev zy44 : Jvm.MethodName := ({ cls := "QuotaPeers", name := "giveOver", desc := "(LQuotaPeers$Peer;)V" } : Jvm.MethodName)
abbrev zy45 : Jvm.MethodName := ({ cls := "QuotaPeers", name := "put", desc := "(LQuotaPeers$Question;LQuotaPeers$Peer;I)V" } : Jvm.MethodName)
abbrev zy46 : Jvm.MethodName := ({ cls := "QuotaPeers", name := "ask", desc := "(I)I" } : Jvm.MethodName)
abbrev zy47 : Jvm.MethodName := ({ cls := "QuotaPeers", name := "askAnswered", desc := "(LQuotaPeers$Peer;LQuotaPeers$Message;)V" } : Jvm.MethodName)
abbrev zy48 : Jvm.MethodName := ({ cls := "QuotaPeers", name := "open", desc := "(LQuotaPeers$Peer;LQuotaPeers$Link;LQuotaPeers$Message;)V" } : Jvm.MethodName)
abbrev zy49 : Jvm.MethodName := ({ cls := "QuotaPeers", name := "forget", desc := "()V" } : Jvm.MethodName)
abbrev zy50 : Jvm.MethodName := ({ cls := "QuotaPeers", name := "dropFirst", desc := "()V" } : Jvm.MethodName)
abbrev zy51 : Jvm.MethodName := ({ cls := "QuotaPeers", name := "keptFor", desc := "(LQuotaPeers$Message;)LQuotaPeers$Answer;" } : Jvm.MethodName)
abbrev zy52 : Jvm.MethodName := ({ cls := "QuotaPeers", name := "keep", desc := "(LQuotaPeers$Message;)V" } : Jvm.MethodName)
abbrev zy53 : Jvm.MethodName := ({ cls := "QuotaPeers", name := "credit", desc := "(LQuotaPeers$Peer;LQuotaPeers$Link;LQuotaPeers$Message;)V" } : Jvm.MethodName)
abbrev zy54 : Jvm.MethodName := ({ cls := "QuotaPeers", name := "units", desc := "(LQuotaPeers$Message;I)J" } : Jvm.MethodName)
abbrev zy55 : Jvm.MethodName := ({ cls := "QuotaPeers", name := "areUnitsRight", desc := "(LQuotaPeers$Message;I)Z" } : Jvm.MethodName)
abbrev zy56 : Jvm.MethodName := ({ cls := "QuotaPeers", name := "accountAt", desc := "(J)LQuotaPeers$Account;" } : Jvm.MethodName)
abbrev zy57 : Jvm.MethodName := ({ cls := "QuotaPeers", name := "accountOf", desc := "(LQuotaPeers$Message;)LQuotaPeers$Account;" } : Jvm.MethodName)
abbrev zy58 : Jvm.MethodName := ({ cls := "QuotaPeers", name := "sessionOf", desc := "(LQuotaPeers$Message;)LQuotaPeers$Session;" } : Jvm.MethodName)
abbrev zy59 : Jvm.MethodName := ({ cls := "QuotaPeers", name := "decide", desc := "(LQuotaPeers$Peer;LQuotaPeers$Message;)I" } : Jvm.MethodName)
abbrev zy60 : Jvm.MethodName := ({ cls := "QuotaPeers", name := "note", desc := "(LQuotaPeers$Session;LQuotaPeers$Peer;LQuotaPeers$Message;)V" } : Jvm.MethodName)
abbrev zy61 : Jvm.MethodName := ({ cls := "QuotaPeers", name := "grant", desc := "(LQuotaPeers$Session;LQuotaPeers$Message;)I" } : Jvm.MethodName)
abbrev zy62 : Jvm.MethodName := ({ cls := "QuotaPeers", name := "begins", desc := "(LQuotaPeers$Peer;LQuotaPeers$Message;)I" } : Jvm.MethodName)
abbrev zy63 : Jvm.MethodName := ({ cls := "QuotaPeers", name := "used", desc := "(LQuotaPeers$Message;)J" } : Jvm.MethodName)
abbrev zy64 : Jvm.MethodName := ({ cls := "QuotaPeers", name := "goesOn", desc := "(LQuotaPeers$Peer;LQuotaPeers$Message;)I" } : Jvm.MethodName)
abbrev zy65 : Jvm.MethodName := ({ cls := "QuotaPeers", name := "remove", desc := "(LQuotaPeers$Session;)V" } : Jvm.MethodName)
abbrev zy66 : Jvm.MethodName := ({ cls := "QuotaPeers", name := "ends", desc := "(LQuotaPeers$Message;)I" } : Jvm.MethodName)
abbrev zy67 : Jvm.MethodName := ({ cls := "QuotaPeers", name := "event", desc := "(LQuotaPeers$Message;I)I" } : Jvm.MethodName)
abbrev zy68 : Jvm.MethodName := ({ cls := "QuotaPeers", name := "peersAt", desc := "()I" } : Jvm.MethodName)
abbrev zy69 : Jvm.MethodName := ({ cls := "QuotaPeers", name := "sessionsAt", desc := "()I" } : Jvm.MethodName)
abbrev zy70 : Jvm.MethodName := ({ cls := "QuotaPeers", name := "tick", desc := "(I)I" } : Jvm.MethodName)
abbrev zy71 : Jvm.MethodName := ({ cls := "QuotaPeers", name := "clock", desc := "()I" } : Jvm.MethodName)
abbrev zy72 : Jvm.MethodName := ({ cls := "QuotaPeers", name := "take", desc := "(I)I" } : Jvm.MethodName)
abbrev zy73 : Jvm.MethodName := ({ cls := "QuotaPeers", name := "waiting", desc := "(I)I" } : Jvm.MethodName)
abbrev zy74 : Jvm.MethodName := ({ cls := "QuotaPeers", name := "connection", desc := "(II)I" } : Jvm.MethodName)
abbrev zy75 : Jvm.MethodName := ({ cls := "QuotaPeers", name := "state", desc := "(II)I" } : Jvm.MethodName)
abbrev zy76 : Jvm.MethodName := ({ cls := "QuotaPeers", name := "account", desc := "(JJ)I" } : Jvm.MethodName)
abbrev zy77 : Jvm.MethodName := ({ cls := "QuotaPeers", name := "balance", desc := "(JI)J" } : Jvm.MethodName)
abbrev zy78 : Jvm.MethodName := ({ cls := "QuotaPeers", name := "sessions", desc := "()I" } : Jvm.MethodName)
abbrev zy79 : Jvm.MethodName := ({ cls := "QuotaPeers", name := "session", desc := "(II)I" } : Jvm.MethodName)
abbrev zy80 : Jvm.MethodName := ({ cls := "QuotaPeers", name := "granted", desc := "(I)J" } : Jvm.MethodName)
abbrev zy81 : Jvm.MethodName := ({ cls := "QuotaPeers", name := "asked", desc := "(II)I" } : Jvm.MethodName)
abbrev zy82 : Jvm.MethodName := ({ cls := "QuotaPeers", name := "kept", desc := "()I" } : Jvm.MethodName)
abbrev zy83 : Jvm.MethodName := ({ cls := "QuotaPeers", name := "lost", desc := "()I" } : Jvm.MethodName)
abbrev zy84 : Jvm.MethodName := ({ cls := "QuotaPeersModel", name := "<init>", desc := "()V" } : Jvm.MethodName)
abbrev zy85 : Jvm.MethodName := ({ cls := "QuotaPeersModel", name := "in", desc := "(III)Z" } : Jvm.MethodName)
abbrev zy86 : Jvm.MethodName := ({ cls := "QuotaPeersModel", name := "isSign", desc := "(I)Z" } : Jvm.MethodName)
abbrev zy87 : Jvm.MethodName := ({ cls := "QuotaPeersModel", name := "sign", desc := "(I)I" } : Jvm.MethodName)
abbrev zy88 : Jvm.MethodName := ({ cls := "QuotaPeersModel", name := "own", desc := "()I" } : Jvm.MethodName)
abbrev zy89 : Jvm.MethodName := ({ cls := "QuotaPeersModel", name := "peer", desc := "(Z)I" } : Jvm.MethodName)
abbrev zy90 : Jvm.MethodName := ({ cls := "QuotaPeersModel", name := "isLater", desc := "(I)Z" } : Jvm.MethodName)
abbrev zy91 : Jvm.MethodName := ({ cls := "QuotaPeersModel", name := "put", desc := "(II)V" } : Jvm.MethodName)
abbrev zy92 : Jvm.MethodName := ({ cls := "QuotaPeersModel", name := "head", desc := "(IIIII)V" } : Jvm.MethodName)
abbrev zy93 : Jvm.MethodName := ({ cls := "QuotaPeersModel", name := "attribute", desc := "(II)V" } : Jvm.MethodName)
abbrev zy94 : Jvm.MethodName := ({ cls := "QuotaPeersModel", name := "putNumber", desc := "(II)V" } : Jvm.MethodName)
abbrev zy95 : Jvm.MethodName := ({ cls := "QuotaPeersModel", name := "pad", desc := "()V" } : Jvm.MethodName)
abbrev zy96 : Jvm.MethodName := ({ cls := "QuotaPeersModel", name := "text", desc := "(I[BII)V" } : Jvm.MethodName)
abbrev zy97 : Jvm.MethodName := ({ cls := "QuotaPeersModel", name := "me", desc := "()V" } : Jvm.MethodName)
abbrev zy98 : Jvm.MethodName := ({ cls := "QuotaPeersModel", name := "address", desc := "()V" } : Jvm.MethodName)
abbrev zy99 : Jvm.MethodName := ({ cls := "QuotaPeersModel", name := "go", desc := "(I)V" } : Jvm.MethodName)
abbrev zy100 : Jvm.MethodName := ({ cls := "QuotaPeersModel", name := "nextHop", desc := "()I" } : Jvm.MethodName)
abbrev zy101 : Jvm.MethodName := ({ cls := "QuotaPeersModel", name := "connectionOf", desc := "(I)I" } : Jvm.MethodName)
abbrev zy102 : Jvm.MethodName := ({ cls := "QuotaPeersModel", name := "sendOpening", desc := "(I)V" } : Jvm.MethodName)
abbrev zy103 : Jvm.MethodName := ({ cls := "QuotaPeersModel", name := "sendWatch", desc := "(I)V" } : Jvm.MethodName)
abbrev zy104 : Jvm.MethodName := ({ cls := "QuotaPeersModel", name := "sendEnding", desc := "(II)V" } : Jvm.MethodName)
abbrev zy105 : Jvm.MethodName := ({ cls := "QuotaPeersModel", name := "octet", desc := "(I)I" } : Jvm.MethodName)
abbrev zy106 : Jvm.MethodName := ({ cls := "QuotaPeersModel", name := "number4", desc := "(I)I" } : Jvm.MethodName)
abbrev zy107 : Jvm.MethodName := ({ cls := "QuotaPeersModel", name := "number3", desc := "(I)I" } : Jvm.MethodName)
abbrev zy108 : Jvm.MethodName := ({ cls := "QuotaPeersModel", name := "number8", desc := "(I)J" } : Jvm.MethodName)
abbrev zy109 : Jvm.MethodName := ({ cls := "QuotaPeersModel", name := "sort", desc := "(I)I" } : Jvm.MethodName)
abbrev zy110 : Jvm.MethodName := ({ cls := "QuotaPeersModel", name := "isSize", desc := "(II)Z" } : Jvm.MethodName)
abbrev zy111 : Jvm.MethodName := ({ cls := "QuotaPeersModel", name := "fault", desc := "(II)V" } : Jvm.MethodName)
abbrev zy112 : Jvm.MethodName := ({ cls := "QuotaPeersModel", name := "see", desc := "(IIII)V" } : Jvm.MethodName)
abbrev zy113 : Jvm.MethodName := ({ cls := "QuotaPeersModel", name := "groupOf", desc := "(II)I" } : Jvm.MethodName)
abbrev zy114 : Jvm.MethodName := ({ cls := "QuotaPeersModel", name := "attributes", desc := "()V" } : Jvm.MethodName)
abbrev zy115 : Jvm.MethodName := ({ cls := "QuotaPeersModel", name := "isRequest", desc := "()Z" } : Jvm.MethodName)
abbrev zy116 : Jvm.MethodName := ({ cls := "QuotaPeersModel", name := "must", desc := "(I)I" } : Jvm.MethodName)
abbrev zy117 : Jvm.MethodName := ({ cls := "QuotaPeersModel", name := "look", desc := "(I)V" } : Jvm.MethodName)
abbrev zy118 : Jvm.MethodName := ({ cls := "QuotaPeersModel", name := "lacks", desc := "()V" } : Jvm.MethodName)
abbrev zy119 : Jvm.MethodName := ({ cls := "QuotaPeersModel", name := "isText", desc := "(I[BII)Z" } : Jvm.MethodName)
abbrev zy120 : Jvm.MethodName := ({ cls := "QuotaPeersModel", name := "answer", desc := "(I)V" } : Jvm.MethodName)
abbrev zy121 : Jvm.MethodName := ({ cls := "QuotaPeersModel", name := "refuse", desc := "(I)V" } : Jvm.MethodName)
abbrev zy122 : Jvm.MethodName := ({ cls := "QuotaPeersModel", name := "answerWith", desc := "(II)V" } : Jvm.MethodName)
abbrev zy123 : Jvm.MethodName := ({ cls := "QuotaPeersModel", name := "answerCame", desc := "(I)V" } : Jvm.MethodName)
abbrev zy124 : Jvm.MethodName := ({ cls := "QuotaPeersModel", name := "shut", desc := "(I)V" } : Jvm.MethodName)
abbrev zy125 : Jvm.MethodName := ({ cls := "QuotaPeersModel", name := "fresh", desc := "(I)I" } : Jvm.MethodName)
abbrev zy126 : Jvm.MethodName := ({ cls := "QuotaPeersModel", name := "become", desc := "(II)V" } : Jvm.MethodName)
abbrev zy127 : Jvm.MethodName := ({ cls := "QuotaPeersModel", name := "accepts", desc := "(I)V" } : Jvm.MethodName)
abbrev zy128 : Jvm.MethodName := ({ cls := "QuotaPeersModel", name := "choose", desc := "(I)V" } : Jvm.MethodName)
abbrev zy129 : Jvm.MethodName := ({ cls := "QuotaPeersModel", name := "drop", desc := "(I)V" } : Jvm.MethodName)
abbrev zy130 : Jvm.MethodName := ({ cls := "QuotaPeersModel", name := "dropAll", desc := "(I)V" } : Jvm.MethodName)
abbrev zy131 : Jvm.MethodName := ({ cls := "QuotaPeersModel", name := "isUsable", desc := "(I)Z" } : Jvm.MethodName)
abbrev zy132 : Jvm.MethodName := ({ cls := "QuotaPeersModel", name := "leastUsable", desc := "()I" } : Jvm.MethodName)
abbrev zy133 : Jvm.MethodName := ({ cls := "QuotaPeersModel", name := "sendAsk", desc := "(II)V" } : Jvm.MethodName)
abbrev zy134 : Jvm.MethodName := ({ cls := "QuotaPeersModel", name := "giveOver", desc := "(I)V" } : Jvm.MethodName)
abbrev zy135 : Jvm.MethodName := ({ cls := "QuotaPeersModel", name := "accountOf", desc := "(J)I" } : Jvm.MethodName)
abbrev zy136 : Jvm.MethodName := ({ cls := "QuotaPeersModel", name := "subscriber", desc := "()I" } : Jvm.MethodName)
abbrev zy137 : Jvm.MethodName := ({ cls := "QuotaPeersModel", name := "sessionOf", desc := "()I" } : Jvm.MethodName)
abbrev zy138 : Jvm.MethodName := ({ cls := "QuotaPeersModel", name := "copyText", desc := "(I[BI)V" } : Jvm.MethodName)
abbrev zy139 : Jvm.MethodName := ({ cls := "QuotaPeersModel", name := "copyRow", desc := "([BI[BI)V" } : Jvm.MethodName)
abbrev zy140 : Jvm.MethodName := ({ cls := "QuotaPeersModel", name := "forget", desc := "(I)V" } : Jvm.MethodName)
abbrev zy141 : Jvm.MethodName := ({ cls := "QuotaPeersModel", name := "free", desc := "(I)J" } : Jvm.MethodName)
abbrev zy142 : Jvm.MethodName := ({ cls := "QuotaPeersModel", name := "units", desc := "(IJ)J" } : Jvm.MethodName)
abbrev zy143 : Jvm.MethodName := ({ cls := "QuotaPeersModel", name := "theirCount", desc := "()J" } : Jvm.MethodName)
abbrev zy144 : Jvm.MethodName := ({ cls := "QuotaPeersModel", name := "credit", desc := "(II)V" } : Jvm.MethodName)
abbrev zy145 : Jvm.MethodName := ({ cls := "QuotaPeersModel", name := "decide", desc := "(I)I" } : Jvm.MethodName)
abbrev zy146 : Jvm.MethodName := ({ cls := "QuotaPeersModel", name := "of", desc := "(II)V" } : Jvm.MethodName)
abbrev zy147 : Jvm.MethodName := ({ cls := "QuotaPeersModel", name := "grant", desc := "(I)V" } : Jvm.MethodName)
abbrev zy148 : Jvm.MethodName := ({ cls := "QuotaPeersModel", name := "first", desc := "(I)I" } : Jvm.MethodName)
abbrev zy149 : Jvm.MethodName := ({ cls := "QuotaPeersModel", name := "event", desc := "(IJ)I" } : Jvm.MethodName)
abbrev zy150 : Jvm.MethodName := ({ cls := "QuotaPeersModel", name := "stale", desc := "()V" } : Jvm.MethodName)
abbrev zy151 : Jvm.MethodName := ({ cls := "QuotaPeersModel", name := "oldest", desc := "()V" } : Jvm.MethodName)
abbrev zy152 : Jvm.MethodName := ({ cls := "QuotaPeersModel", name := "keep", desc := "()V" } : Jvm.MethodName)
abbrev zy153 : Jvm.MethodName := ({ cls := "QuotaPeersModel", name := "again", desc := "(I)Z" } : Jvm.MethodName)
abbrev zy154 : Jvm.MethodName := ({ cls := "QuotaPeersModel", name := "handle", desc := "(I)V" } : Jvm.MethodName)
abbrev zy155 : Jvm.MethodName := ({ cls := "QuotaPeersModel", name := "strange", desc := "(I)V" } : Jvm.MethodName)
abbrev zy156 : Jvm.MethodName := ({ cls := "QuotaPeersModel", name := "isOurs", desc := "(II)Z" } : Jvm.MethodName)
abbrev zy157 : Jvm.MethodName := ({ cls := "QuotaPeersModel", name := "opening", desc := "(II)V" } : Jvm.MethodName)
abbrev zy158 : Jvm.MethodName := ({ cls := "QuotaPeersModel", name := "ending", desc := "(II)V" } : Jvm.MethodName)
abbrev zy159 : Jvm.MethodName := ({ cls := "QuotaPeersModel", name := "atWork", desc := "(II)V" } : Jvm.MethodName)
abbrev zy160 : Jvm.MethodName := ({ cls := "QuotaPeersModel", name := "request", desc := "(II)V" } : Jvm.MethodName)
abbrev zy161 : Jvm.MethodName := ({ cls := "QuotaPeersModel", name := "theirAnswer", desc := "(II)V" } : Jvm.MethodName)
abbrev zy162 : Jvm.MethodName := ({ cls := "QuotaPeersModel", name := "noPeer", desc := "(I)Z" } : Jvm.MethodName)
abbrev zy163 : Jvm.MethodName := ({ cls := "QuotaPeersModel", name := "begin", desc := "(I)I" } : Jvm.MethodName)
abbrev zy164 : Jvm.MethodName := ({ cls := "QuotaPeersModel", name := "start", desc := "(I)I" } : Jvm.MethodName)
abbrev zy165 : Jvm.MethodName := ({ cls := "QuotaPeersModel", name := "accept", desc := "()I" } : Jvm.MethodName)
abbrev zy166 : Jvm.MethodName := ({ cls := "QuotaPeersModel", name := "connected", desc := "(IZ)I" } : Jvm.MethodName)
abbrev zy167 : Jvm.MethodName := ({ cls := "QuotaPeersModel", name := "feed", desc := "(IJJJJI)I" } : Jvm.MethodName)
abbrev zy168 : Jvm.MethodName := ({ cls := "QuotaPeersModel", name := "gone", desc := "(I)I" } : Jvm.MethodName)
abbrev zy169 : Jvm.MethodName := ({ cls := "QuotaPeersModel", name := "stop", desc := "(II)I" } : Jvm.MethodName)
abbrev zy170 : Jvm.MethodName := ({ cls := "QuotaPeersModel", name := "ring", desc := "(I)V" } : Jvm.MethodName)
abbrev zy171 : Jvm.MethodName := ({ cls := "QuotaPeersModel", name := "tick", desc := "(I)I" } : Jvm.MethodName)
abbrev zy172 : Jvm.MethodName := ({ cls := "QuotaPeersModel", name := "clock", desc := "()I" } : Jvm.MethodName)
abbrev zy173 : Jvm.MethodName := ({ cls := "QuotaPeersModel", name := "take", desc := "(I)I" } : Jvm.MethodName)
abbrev zy174 : Jvm.MethodName := ({ cls := "QuotaPeersModel", name := "waiting", desc := "(I)I" } : Jvm.MethodName)
abbrev zy175 : Jvm.MethodName := ({ cls := "QuotaPeersModel", name := "connection", desc := "(II)I" } : Jvm.MethodName)
abbrev zy176 : Jvm.MethodName := ({ cls := "QuotaPeersModel", name := "state", desc := "(II)I" } : Jvm.MethodName)
abbrev zy177 : Jvm.MethodName := ({ cls := "QuotaPeersModel", name := "account", desc := "(JJ)I" } : Jvm.MethodName)
abbrev zy178 : Jvm.MethodName := ({ cls := "QuotaPeersModel", name := "balance", desc := "(JI)J" } : Jvm.MethodName)
abbrev zy179 : Jvm.MethodName := ({ cls := "QuotaPeersModel", name := "sessions", desc := "()I" } : Jvm.MethodName)
abbrev zy180 : Jvm.MethodName := ({ cls := "QuotaPeersModel", name := "session", desc := "(II)I" } : Jvm.MethodName)
abbrev zy181 : Jvm.MethodName := ({ cls := "QuotaPeersModel", name := "granted", desc := "(I)J" } : Jvm.MethodName)
abbrev zy182 : Jvm.MethodName := ({ cls := "QuotaPeersModel", name := "ask", desc := "(I)I" } : Jvm.MethodName)
abbrev zy183 : Jvm.MethodName := ({ cls := "QuotaPeersModel", name := "asked", desc := "(II)I" } : Jvm.MethodName)
abbrev zy184 : Jvm.MethodName := ({ cls := "QuotaPeersModel", name := "kept", desc := "()I" } : Jvm.MethodName)
abbrev zy185 : Jvm.MethodName := ({ cls := "QuotaPeersModel", name := "lost", desc := "()I" } : Jvm.MethodName)
abbrev zy186 : Jvm.MethodName := ({ cls := "QuotaPeers$Account", name := "<init>", desc := "(JJ)V" } : Jvm.MethodName)
abbrev zy187 : Jvm.MethodName := ({ cls := "QuotaPeers$Account", name := "free", desc := "()J" } : Jvm.MethodName)
abbrev zy188 : Jvm.MethodName := ({ cls := "QuotaPeers$Account", name := "charge", desc := "(J)V" } : Jvm.MethodName)
abbrev zy189 : Jvm.MethodName := ({ cls := "QuotaPeers$Answer", name := "<init>", desc := "()V" } : Jvm.MethodName)
abbrev zy190 : Jvm.MethodName := ({ cls := "QuotaPeers$Link", name := "<init>", desc := "(I)V" } : Jvm.MethodName)
abbrev zy191 : Jvm.MethodName := ({ cls := "QuotaPeers$Link", name := "isOpen", desc := "()Z" } : Jvm.MethodName)
abbrev zy192 : Jvm.MethodName := ({ cls := "QuotaPeers$Link", name := "begin", desc := "(ILQuotaPeers$Peer;)V" } : Jvm.MethodName)
abbrev zy193 : Jvm.MethodName := ({ cls := "QuotaPeers$Link", name := "close", desc := "()V" } : Jvm.MethodName)
abbrev zy194 : Jvm.MethodName := ({ cls := "QuotaPeers$Link", name := "put", desc := "([BI)Z" } : Jvm.MethodName)
abbrev zy195 : Jvm.MethodName := ({ cls := "QuotaPeers$Link", name := "take", desc := "()I" } : Jvm.MethodName)
abbrev zy196 : Jvm.MethodName := ({ cls := "QuotaPeers$Message", name := "<init>", desc := "()V" } : Jvm.MethodName)
abbrev zy197 : Jvm.MethodName := ({ cls := "QuotaPeers$Message", name := "get", desc := "(II)J" } : Jvm.MethodName)
abbrev zy198 : Jvm.MethodName := ({ cls := "QuotaPeers$Message", name := "isRequest", desc := "()Z" } : Jvm.MethodName)
abbrev zy199 : Jvm.MethodName := ({ cls := "QuotaPeers$Message", name := "kindOf", desc := "(I)I" } : Jvm.MethodName)
abbrev zy200 : Jvm.MethodName := ({ cls := "QuotaPeers$Message", name := "fits", desc := "(II)Z" } : Jvm.MethodName)
abbrev zy201 : Jvm.MethodName := ({ cls := "QuotaPeers$Message", name := "isWrong", desc := "(II)Z" } : Jvm.MethodName)
abbrev zy202 : Jvm.MethodName := ({ cls := "QuotaPeers$Message", name := "walk", desc := "(LQuotaPeers$Message;III)Z" } : Jvm.MethodName)
abbrev zy203 : Jvm.MethodName := ({ cls := "QuotaPeers$Message", name := "note", desc := "(III)V" } : Jvm.MethodName)
abbrev zy204 : Jvm.MethodName := ({ cls := "QuotaPeers$Message", name := "many", desc := "(I)I" } : Jvm.MethodName)
abbrev zy205 : Jvm.MethodName := ({ cls := "QuotaPeers$Message", name := "find", desc := "(I)I" } : Jvm.MethodName)
abbrev zy206 : Jvm.MethodName := ({ cls := "QuotaPeers$Message", name := "has", desc := "(I)Z" } : Jvm.MethodName)
abbrev zy207 : Jvm.MethodName := ({ cls := "QuotaPeers$Message", name := "number", desc := "(I)J" } : Jvm.MethodName)
abbrev zy208 : Jvm.MethodName := ({ cls := "QuotaPeers$Message", name := "isText", desc := "(ILQuotaPeers$Text;)Z" } : Jvm.MethodName)
abbrev zy209 : Jvm.MethodName := ({ cls := "QuotaPeers$Message", name := "take", desc := "(ILQuotaPeers$Text;)V" } : Jvm.MethodName)
abbrev zy210 : Jvm.MethodName := ({ cls := "QuotaPeers$Message", name := "inside", desc := "(II)I" } : Jvm.MethodName)
abbrev zy211 : Jvm.MethodName := ({ cls := "QuotaPeers$Message", name := "rules", desc := "()LQuotaPeers$Command;" } : Jvm.MethodName)
abbrev zy212 : Jvm.MethodName := ({ cls := "QuotaPeers$Message", name := "isHeadWrong", desc := "(LQuotaPeers$Command;)Z" } : Jvm.MethodName)
abbrev zy213 : Jvm.MethodName := ({ cls := "QuotaPeers$Message", name := "isLacking", desc := "(LQuotaPeers$Command;)Z" } : Jvm.MethodName)
abbrev zy214 : Jvm.MethodName := ({ cls := "QuotaPeers$Message", name := "read", desc := "([BI)V" } : Jvm.MethodName)
abbrev zy215 : Jvm.MethodName := ({ cls := "QuotaPeers$Message", name := "tellsFailed", desc := "()Z" } : Jvm.MethodName)
abbrev zy216 : Jvm.MethodName := ({ cls := "QuotaPeers$Page", name := "<init>", desc := "()V" } : Jvm.MethodName)
abbrev zy217 : Jvm.MethodName := ({ cls := "QuotaPeers$Page", name := "put", desc := "(JI)V" } : Jvm.MethodName)
abbrev zy218 : Jvm.MethodName := ({ cls := "QuotaPeers$Page", name := "set", desc := "(IJI)V" } : Jvm.MethodName)
abbrev zy219 : Jvm.MethodName := ({ cls := "QuotaPeers$Page", name := "begin", desc := "(IIIII)V" } : Jvm.MethodName)
abbrev zy220 : Jvm.MethodName := ({ cls := "QuotaPeers$Page", name := "end", desc := "()V" } : Jvm.MethodName)
abbrev zy221 : Jvm.MethodName := ({ cls := "QuotaPeers$Page", name := "attribute", desc := "(II)V" } : Jvm.MethodName)
abbrev zy222 : Jvm.MethodName := ({ cls := "QuotaPeers$Page", name := "pad", desc := "()V" } : Jvm.MethodName)
abbrev zy223 : Jvm.MethodName := ({ cls := "QuotaPeers$Page", name := "number", desc := "(IJ)V" } : Jvm.MethodName)
abbrev zy224 : Jvm.MethodName := ({ cls := "QuotaPeers$Page", name := "text", desc := "(ILQuotaPeers$Text;)V" } : Jvm.MethodName)
abbrev zy225 : Jvm.MethodName := ({ cls := "QuotaPeers$Page", name := "octets", desc := "(I[BII)V" } : Jvm.MethodName)
abbrev zy226 : Jvm.MethodName := ({ cls := "QuotaPeers$Page", name := "address", desc := "()V" } : Jvm.MethodName)
abbrev zy227 : Jvm.MethodName := ({ cls := "QuotaPeers$Page", name := "units", desc := "(IJ)V" } : Jvm.MethodName)
abbrev zy228 : Jvm.MethodName := ({ cls := "QuotaPeers$Page", name := "failed", desc := "(I)V" } : Jvm.MethodName)
abbrev zy229 : Jvm.MethodName := ({ cls := "QuotaPeers$Peer", name := "<init>", desc := "(IZI)V" } : Jvm.MethodName)
abbrev zy230 : Jvm.MethodName := ({ cls := "QuotaPeers$Peer", name := "isUp", desc := "()Z" } : Jvm.MethodName)
abbrev zy231 : Jvm.MethodName := ({ cls := "QuotaPeers$Peer", name := "isUsable", desc := "()Z" } : Jvm.MethodName)
abbrev zy232 : Jvm.MethodName := ({ cls := "QuotaPeers$Peer", name := "link", desc := "()LQuotaPeers$Link;" } : Jvm.MethodName)
abbrev zy233 : Jvm.MethodName := ({ cls := "QuotaPeers$Peer", name := "isGivenTime", desc := "()Z" } : Jvm.MethodName)
abbrev zy234 : Jvm.MethodName := ({ cls := "QuotaPeers$Question", name := "<init>", desc := "()V" } : Jvm.MethodName)
abbrev zy235 : Jvm.MethodName := ({ cls := "QuotaPeers$Session", name := "<init>", desc := "()V" } : Jvm.MethodName)
abbrev zy236 : Jvm.MethodName := ({ cls := "QuotaPeers$Session", name := "settle", desc := "(J)V" } : Jvm.MethodName)
abbrev zy237 : Jvm.MethodName := ({ cls := "QuotaPeers$Session", name := "reserve", desc := "(J)V" } : Jvm.MethodName)
abbrev zy238 : Jvm.MethodName := ({ cls := "QuotaPeers$Text", name := "<init>", desc := "()V" } : Jvm.MethodName)
abbrev zy239 : Jvm.MethodName := ({ cls := "QuotaPeers$Text", name := "clear", desc := "()V" } : Jvm.MethodName)
abbrev zy240 : Jvm.MethodName := ({ cls := "QuotaPeers$Text", name := "add", desc := "(I)V" } : Jvm.MethodName)
abbrev zy241 : Jvm.MethodName := ({ cls := "QuotaPeers$Text", name := "copy", desc := "(LQuotaPeers$Text;)V" } : Jvm.MethodName)
abbrev zy242 : Jvm.MethodName := ({ cls := "QuotaPeers$Text", name := "take", desc := "([BII)V" } : Jvm.MethodName)
abbrev zy243 : Jvm.MethodName := ({ cls := "QuotaPeers$Text", name := "isSame", desc := "(LQuotaPeers$Text;)Z" } : Jvm.MethodName)
abbrev zy244 : Jvm.MethodName := ({ cls := "QuotaPeers$Text", name := "isIn", desc := "([BII)Z" } : Jvm.MethodName)
abbrev zy245 : Jvm.MethodName := ({ cls := "QuotaPeers$Text", name := "isLater", desc := "(LQuotaPeers$Text;)Z" } : Jvm.MethodName)
abbrev zy246 : Jvm.MethodName := ({ cls := "QuotaPeers$Text", name := "set", desc := "(IIIIII)V" } : Jvm.MethodName)
abbrev zy247 : Jvm.MethodName := ({ cls := "QuotaPeers$Command", name := "values", desc := "()[LQuotaPeers$Command;" } : Jvm.MethodName)
def z_tb : Nat → MethodName × ByteArray × Nat × Option FieldType := fun y => ([
  (zy0, prog_1_method_1_code, 1, (Option.some Jvm.ClassFile.FieldType.boolean)),
  (zy1, prog_1_method_2_code, 2, (Option.none : Option Jvm.ClassFile.FieldType)),
  (zy2, prog_1_method_3_code, 6, (Option.some Jvm.ClassFile.FieldType.boolean)),
  (zy3, prog_1_method_4_code, 5, (Option.some Jvm.ClassFile.FieldType.int)),
  (zy4, prog_1_method_5_code, 1, (Option.some Jvm.ClassFile.FieldType.int)),
  (zy5, prog_1_method_6_code, 4, (Option.some Jvm.ClassFile.FieldType.int)),
  (zy6, prog_1_method_7_code, 2, (Option.some (Jvm.ClassFile.FieldType.object "QuotaPeers$Peer"))),
  (zy7, prog_1_method_8_code, 2, (Option.some (Jvm.ClassFile.FieldType.object "QuotaPeers$Link"))),
  (zy8, prog_1_method_9_code, 5, (Option.some (Jvm.ClassFile.FieldType.object "QuotaPeers$Link"))),
  (zy9, prog_1_method_10_code, 2, (Option.none : Option Jvm.ClassFile.FieldType)),
  (zy10, prog_1_method_11_code, 5, (Option.none : Option Jvm.ClassFile.FieldType)),
  (zy11, prog_1_method_12_code, 1, (Option.none : Option Jvm.ClassFile.FieldType)),
  (zy12, prog_1_method_13_code, 1, (Option.none : Option Jvm.ClassFile.FieldType)),
  (zy13, prog_1_method_14_code, 2, (Option.none : Option Jvm.ClassFile.FieldType)),
  (zy14, prog_1_method_15_code, 2, (Option.none : Option Jvm.ClassFile.FieldType)),
  (zy15, prog_1_method_16_code, 7, (Option.none : Option Jvm.ClassFile.FieldType)),
  (zy16, prog_1_method_17_code, 4, (Option.none : Option Jvm.ClassFile.FieldType)),
  (zy17, prog_1_method_18_code, 3, (Option.none : Option Jvm.ClassFile.FieldType)),
  (zy18, prog_1_method_19_code, 4, (Option.none : Option Jvm.ClassFile.FieldType)),
  (zy19, prog_1_method_20_code, 2, (Option.none : Option Jvm.ClassFile.FieldType)),
  (zy20, prog_1_method_21_code, 1, (Option.none : Option Jvm.ClassFile.FieldType)),
  (zy21, prog_1_method_22_code, 1, (Option.none : Option Jvm.ClassFile.FieldType)),
  (zy22, prog_1_method_23_code, 4, (Option.none : Option Jvm.ClassFile.FieldType)),
  (zy23, prog_1_method_24_code, 2, (Option.none : Option Jvm.ClassFile.FieldType)),
  (zy24, prog_1_method_25_code, 2, (Option.none : Option Jvm.ClassFile.FieldType)),
  (zy25, prog_1_method_26_code, 2, (Option.none : Option Jvm.ClassFile.FieldType)),
  (zy26, prog_1_method_27_code, 2, (Option.none : Option Jvm.ClassFile.FieldType)),
  (zy27, prog_1_method_28_code, 2, (Option.none : Option Jvm.ClassFile.FieldType)),
  (zy28, prog_1_method_29_code, 4, (Option.none : Option Jvm.ClassFile.FieldType)),
  (zy29, prog_1_method_30_code, 3, (Option.none : Option Jvm.ClassFile.FieldType)),
  (zy30, prog_1_method_31_code, 4, (Option.some Jvm.ClassFile.FieldType.int)),
  (zy31, prog_1_method_32_code, 2, (Option.some Jvm.ClassFile.FieldType.int)),
  (zy32, prog_1_method_33_code, 5, (Option.some Jvm.ClassFile.FieldType.int)),
  (zy33, prog_1_method_34_code, 3, (Option.some Jvm.ClassFile.FieldType.int)),
  (zy34, prog_1_method_35_code, 4, (Option.some Jvm.ClassFile.FieldType.int)),
  (zy35, prog_1_method_36_code, 17, (Option.some Jvm.ClassFile.FieldType.int)),
  (zy36, prog_1_method_37_code, 4, (Option.none : Option Jvm.ClassFile.FieldType)),
  (zy37, prog_1_method_38_code, 3, (Option.some Jvm.ClassFile.FieldType.boolean)),
  (zy38, prog_1_method_39_code, 5, (Option.none : Option Jvm.ClassFile.FieldType)),
  (zy39, prog_1_method_40_code, 3, (Option.some Jvm.ClassFile.FieldType.boolean)),
  (zy40, prog_1_method_41_code, 4, (Option.none : Option Jvm.ClassFile.FieldType)),
  (zy41, prog_1_method_42_code, 5, (Option.some Jvm.ClassFile.FieldType.boolean)),
  (zy42, prog_1_method_43_code, 3, (Option.none : Option Jvm.ClassFile.FieldType)),
  (zy43, prog_1_method_44_code, 2, (Option.some (Jvm.ClassFile.FieldType.object "QuotaPeers$Peer"))),
  (zy44, prog_1_method_45_code, 5, (Option.none : Option Jvm.ClassFile.FieldType)),
  (zy45, prog_1_method_46_code, 4, (Option.none : Option Jvm.ClassFile.FieldType)),
  (zy46, prog_1_method_47_code, 5, (Option.some Jvm.ClassFile.FieldType.int)),
  (zy47, prog_1_method_48_code, 5, (Option.none : Option Jvm.ClassFile.FieldType)),
  (zy48, prog_1_method_49_code, 4, (Option.none : Option Jvm.ClassFile.FieldType)),
  (zy49, prog_1_method_50_code, 1, (Option.none : Option Jvm.ClassFile.FieldType)),
  (zy50, prog_1_method_51_code, 3, (Option.none : Option Jvm.ClassFile.FieldType)),
  (zy51, prog_1_method_52_code, 3, (Option.some (Jvm.ClassFile.FieldType.object "QuotaPeers$Answer"))),
  (zy52, prog_1_method_53_code, 3, (Option.none : Option Jvm.ClassFile.FieldType)),
  (zy53, prog_1_method_54_code, 6, (Option.none : Option Jvm.ClassFile.FieldType)),
  (zy54, prog_1_method_55_code, 3, (Option.some Jvm.ClassFile.FieldType.long)),
  (zy55, prog_1_method_56_code, 3, (Option.some Jvm.ClassFile.FieldType.boolean)),
  (zy56, prog_1_method_57_code, 4, (Option.some (Jvm.ClassFile.FieldType.object "QuotaPeers$Account"))),
  (zy57, prog_1_method_58_code, 7, (Option.some (Jvm.ClassFile.FieldType.object "QuotaPeers$Account"))),
  (zy58, prog_1_method_59_code, 3, (Option.some (Jvm.ClassFile.FieldType.object "QuotaPeers$Session"))),
  (zy59, prog_1_method_60_code, 6, (Option.some Jvm.ClassFile.FieldType.int)),
  (zy60, prog_1_method_61_code, 3, (Option.none : Option Jvm.ClassFile.FieldType)),
  (zy61, prog_1_method_62_code, 5, (Option.some Jvm.ClassFile.FieldType.int)),
  (zy62, prog_1_method_63_code, 5, (Option.some Jvm.ClassFile.FieldType.int)),
  (zy63, prog_1_method_64_code, 1, (Option.some Jvm.ClassFile.FieldType.long)),
  (zy64, prog_1_method_65_code, 4, (Option.some Jvm.ClassFile.FieldType.int)),
  (zy65, prog_1_method_66_code, 3, (Option.none : Option Jvm.ClassFile.FieldType)),
  (zy66, prog_1_method_67_code, 3, (Option.some Jvm.ClassFile.FieldType.int)),
  (zy67, prog_1_method_68_code, 6, (Option.some Jvm.ClassFile.FieldType.int)),
  (zy68, prog_1_method_69_code, 4, (Option.some Jvm.ClassFile.FieldType.int)),
  (zy69, prog_1_method_70_code, 4, (Option.some Jvm.ClassFile.FieldType.int)),
  (zy70, prog_1_method_71_code, 3, (Option.some Jvm.ClassFile.FieldType.int)),
  (zy71, prog_1_method_72_code, 1, (Option.some Jvm.ClassFile.FieldType.int)),
  (zy72, prog_1_method_73_code, 3, (Option.some Jvm.ClassFile.FieldType.int)),
  (zy73, prog_1_method_74_code, 3, (Option.some Jvm.ClassFile.FieldType.int)),
  (zy74, prog_1_method_75_code, 4, (Option.some Jvm.ClassFile.FieldType.int)),
  (zy75, prog_1_method_76_code, 4, (Option.some Jvm.ClassFile.FieldType.int)),
  (zy76, prog_1_method_77_code, 5, (Option.some Jvm.ClassFile.FieldType.int)),
  (zy77, prog_1_method_78_code, 5, (Option.some Jvm.ClassFile.FieldType.long)),
  (zy78, prog_1_method_79_code, 1, (Option.some Jvm.ClassFile.FieldType.int)),
  (zy79, prog_1_method_80_code, 4, (Option.some Jvm.ClassFile.FieldType.int)),
  (zy80, prog_1_method_81_code, 2, (Option.some Jvm.ClassFile.FieldType.long)),
  (zy81, prog_1_method_82_code, 4, (Option.some Jvm.ClassFile.FieldType.int)),
  (zy82, prog_1_method_83_code, 1, (Option.some Jvm.ClassFile.FieldType.int)),
  (zy83, prog_1_method_84_code, 1, (Option.some Jvm.ClassFile.FieldType.int)),
  (zy84, prog_13_method_1_code, 1, (Option.none : Option Jvm.ClassFile.FieldType)),
  (zy85, prog_13_method_3_code, 3, (Option.some Jvm.ClassFile.FieldType.boolean)),
  (zy86, prog_13_method_4_code, 1, (Option.some Jvm.ClassFile.FieldType.boolean)),
  (zy87, prog_13_method_5_code, 5, (Option.some Jvm.ClassFile.FieldType.int)),
  (zy88, prog_13_method_6_code, 2, (Option.some Jvm.ClassFile.FieldType.int)),
  (zy89, prog_13_method_7_code, 6, (Option.some Jvm.ClassFile.FieldType.int)),
  (zy90, prog_13_method_8_code, 3, (Option.some Jvm.ClassFile.FieldType.boolean)),
  (zy91, prog_13_method_9_code, 4, (Option.none : Option Jvm.ClassFile.FieldType)),
  (zy92, prog_13_method_10_code, 6, (Option.none : Option Jvm.ClassFile.FieldType)),
  (zy93, prog_13_method_11_code, 3, (Option.none : Option Jvm.ClassFile.FieldType)),
  (zy94, prog_13_method_12_code, 3, (Option.none : Option Jvm.ClassFile.FieldType)),
  (zy95, prog_13_method_13_code, 1, (Option.none : Option Jvm.ClassFile.FieldType)),
  (zy96, prog_13_method_14_code, 6, (Option.none : Option Jvm.ClassFile.FieldType)),
  (zy97, prog_13_method_15_code, 1, (Option.none : Option Jvm.ClassFile.FieldType)),
  (zy98, prog_13_method_16_code, 1, (Option.none : Option Jvm.ClassFile.FieldType)),
  (zy99, prog_13_method_17_code, 3, (Option.none : Option Jvm.ClassFile.FieldType)),
  (zy100, prog_13_method_18_code, 1, (Option.some Jvm.ClassFile.FieldType.int)),
  (zy101, prog_13_method_19_code, 2, (Option.some Jvm.ClassFile.FieldType.int)),
  (zy102, prog_13_method_20_code, 2, (Option.none : Option Jvm.ClassFile.FieldType)),
  (zy103, prog_13_method_21_code, 2, (Option.none : Option Jvm.ClassFile.FieldType)),
  (zy104, prog_13_method_22_code, 3, (Option.none : Option Jvm.ClassFile.FieldType)),
  (zy105, prog_13_method_23_code, 2, (Option.some Jvm.ClassFile.FieldType.int)),
  (zy106, prog_13_method_24_code, 2, (Option.some Jvm.ClassFile.FieldType.int)),
  (zy107, prog_13_method_25_code, 2, (Option.some Jvm.ClassFile.FieldType.int)),
  (zy108, prog_13_method_26_code, 2, (Option.some Jvm.ClassFile.FieldType.long)),
  (zy109, prog_13_method_27_code, 1, (Option.some Jvm.ClassFile.FieldType.int)),
  (zy110, prog_13_method_28_code, 2, (Option.some Jvm.ClassFile.FieldType.boolean)),
  (zy111, prog_13_method_29_code, 3, (Option.none : Option Jvm.ClassFile.FieldType)),
  (zy112, prog_13_method_30_code, 6, (Option.none : Option Jvm.ClassFile.FieldType)),
  (zy113, prog_13_method_31_code, 4, (Option.some Jvm.ClassFile.FieldType.int)),
  (zy114, prog_13_method_32_code, 10, (Option.none : Option Jvm.ClassFile.FieldType)),
  (zy115, prog_13_method_33_code, 1, (Option.some Jvm.ClassFile.FieldType.boolean)),
  (zy116, prog_13_method_34_code, 2, (Option.some Jvm.ClassFile.FieldType.int)),
  (zy117, prog_13_method_35_code, 3, (Option.none : Option Jvm.ClassFile.FieldType)),
  (zy118, prog_13_method_36_code, 2, (Option.none : Option Jvm.ClassFile.FieldType)),
  (zy119, prog_13_method_37_code, 7, (Option.some Jvm.ClassFile.FieldType.boolean)),
  (zy120, prog_13_method_38_code, 2, (Option.none : Option Jvm.ClassFile.FieldType)),
  (zy121, prog_13_method_39_code, 2, (Option.none : Option Jvm.ClassFile.FieldType)),
  (zy122, prog_13_method_40_code, 3, (Option.none : Option Jvm.ClassFile.FieldType)),
  (zy123, prog_13_method_41_code, 2, (Option.none : Option Jvm.ClassFile.FieldType)),
  (zy124, prog_13_method_42_code, 3, (Option.none : Option Jvm.ClassFile.FieldType)),
  (zy125, prog_13_method_43_code, 3, (Option.some Jvm.ClassFile.FieldType.int)),
  (zy126, prog_13_method_44_code, 5, (Option.none : Option Jvm.ClassFile.FieldType)),
  (zy127, prog_13_method_45_code, 2, (Option.none : Option Jvm.ClassFile.FieldType)),
  (zy128, prog_13_method_46_code, 2, (Option.none : Option Jvm.ClassFile.FieldType)),
  (zy129, prog_13_method_47_code, 4, (Option.none : Option Jvm.ClassFile.FieldType)),
  (zy130, prog_13_method_48_code, 2, (Option.none : Option Jvm.ClassFile.FieldType)),
  (zy131, prog_13_method_49_code, 2, (Option.some Jvm.ClassFile.FieldType.boolean)),
  (zy132, prog_13_method_50_code, 2, (Option.some Jvm.ClassFile.FieldType.int)),
  (zy133, prog_13_method_51_code, 3, (Option.none : Option Jvm.ClassFile.FieldType)),
  (zy134, prog_13_method_52_code, 4, (Option.none : Option Jvm.ClassFile.FieldType)),
  (zy135, prog_13_method_53_code, 4, (Option.some Jvm.ClassFile.FieldType.int)),
  (zy136, prog_13_method_54_code, 5, (Option.some Jvm.ClassFile.FieldType.int)),
  (zy137, prog_13_method_55_code, 2, (Option.some Jvm.ClassFile.FieldType.int)),
  (zy138, prog_13_method_56_code, 5, (Option.none : Option Jvm.ClassFile.FieldType)),
  (zy139, prog_13_method_57_code, 6, (Option.none : Option Jvm.ClassFile.FieldType)),
  (zy140, prog_13_method_58_code, 3, (Option.none : Option Jvm.ClassFile.FieldType)),
  (zy141, prog_13_method_59_code, 2, (Option.some Jvm.ClassFile.FieldType.long)),
  (zy142, prog_13_method_60_code, 4, (Option.some Jvm.ClassFile.FieldType.long)),
  (zy143, prog_13_method_61_code, 1, (Option.some Jvm.ClassFile.FieldType.long)),
  (zy144, prog_13_method_62_code, 3, (Option.none : Option Jvm.ClassFile.FieldType)),
  (zy145, prog_13_method_63_code, 13, (Option.some Jvm.ClassFile.FieldType.int)),
  (zy146, prog_13_method_64_code, 3, (Option.none : Option Jvm.ClassFile.FieldType)),
  (zy147, prog_13_method_65_code, 5, (Option.none : Option Jvm.ClassFile.FieldType)),
  (zy148, prog_13_method_66_code, 4, (Option.some Jvm.ClassFile.FieldType.int)),
  (zy149, prog_13_method_67_code, 5, (Option.some Jvm.ClassFile.FieldType.int)),
  (zy150, prog_13_method_68_code, 1, (Option.none : Option Jvm.ClassFile.FieldType)),
  (zy151, prog_13_method_69_code, 3, (Option.none : Option Jvm.ClassFile.FieldType)),
  (zy152, prog_13_method_70_code, 2, (Option.none : Option Jvm.ClassFile.FieldType)),
  (zy153, prog_13_method_71_code, 4, (Option.some Jvm.ClassFile.FieldType.boolean)),
  (zy154, prog_13_method_72_code, 3, (Option.none : Option Jvm.ClassFile.FieldType)),
  (zy155, prog_13_method_73_code, 4, (Option.none : Option Jvm.ClassFile.FieldType)),
  (zy156, prog_13_method_74_code, 3, (Option.some Jvm.ClassFile.FieldType.boolean)),
  (zy157, prog_13_method_75_code, 4, (Option.none : Option Jvm.ClassFile.FieldType)),
  (zy158, prog_13_method_76_code, 3, (Option.none : Option Jvm.ClassFile.FieldType)),
  (zy159, prog_13_method_77_code, 4, (Option.none : Option Jvm.ClassFile.FieldType)),
  (zy160, prog_13_method_78_code, 3, (Option.none : Option Jvm.ClassFile.FieldType)),
  (zy161, prog_13_method_79_code, 6, (Option.none : Option Jvm.ClassFile.FieldType)),
  (zy162, prog_13_method_80_code, 2, (Option.some Jvm.ClassFile.FieldType.boolean)),
  (zy163, prog_13_method_81_code, 3, (Option.some Jvm.ClassFile.FieldType.int)),
  (zy164, prog_13_method_82_code, 3, (Option.some Jvm.ClassFile.FieldType.int)),
  (zy165, prog_13_method_83_code, 2, (Option.some Jvm.ClassFile.FieldType.int)),
  (zy166, prog_13_method_84_code, 4, (Option.some Jvm.ClassFile.FieldType.int)),
  (zy167, prog_13_method_85_code, 16, (Option.some Jvm.ClassFile.FieldType.int)),
  (zy168, prog_13_method_86_code, 2, (Option.some Jvm.ClassFile.FieldType.int)),
  (zy169, prog_13_method_87_code, 4, (Option.some Jvm.ClassFile.FieldType.int)),
  (zy170, prog_13_method_88_code, 3, (Option.none : Option Jvm.ClassFile.FieldType)),
  (zy171, prog_13_method_89_code, 5, (Option.some Jvm.ClassFile.FieldType.int)),
  (zy172, prog_13_method_90_code, 1, (Option.some Jvm.ClassFile.FieldType.int)),
  (zy173, prog_13_method_91_code, 3, (Option.some Jvm.ClassFile.FieldType.int)),
  (zy174, prog_13_method_92_code, 2, (Option.some Jvm.ClassFile.FieldType.int)),
  (zy175, prog_13_method_93_code, 3, (Option.some Jvm.ClassFile.FieldType.int)),
  (zy176, prog_13_method_94_code, 4, (Option.some Jvm.ClassFile.FieldType.int)),
  (zy177, prog_13_method_95_code, 5, (Option.some Jvm.ClassFile.FieldType.int)),
  (zy178, prog_13_method_96_code, 5, (Option.some Jvm.ClassFile.FieldType.long)),
  (zy179, prog_13_method_97_code, 1, (Option.some Jvm.ClassFile.FieldType.int)),
  (zy180, prog_13_method_98_code, 3, (Option.some Jvm.ClassFile.FieldType.int)),
  (zy181, prog_13_method_99_code, 2, (Option.some Jvm.ClassFile.FieldType.long)),
  (zy182, prog_13_method_100_code, 3, (Option.some Jvm.ClassFile.FieldType.int)),
  (zy183, prog_13_method_101_code, 3, (Option.some Jvm.ClassFile.FieldType.int)),
  (zy184, prog_13_method_102_code, 1, (Option.some Jvm.ClassFile.FieldType.int)),
  (zy185, prog_13_method_103_code, 1, (Option.some Jvm.ClassFile.FieldType.int)),
  (zy186, prog_2_method_1_code, 5, (Option.none : Option Jvm.ClassFile.FieldType)),
  (zy187, prog_2_method_2_code, 1, (Option.some Jvm.ClassFile.FieldType.long)),
  (zy188, prog_2_method_3_code, 3, (Option.none : Option Jvm.ClassFile.FieldType)),
  (zy189, prog_3_method_1_code, 1, (Option.none : Option Jvm.ClassFile.FieldType)),
  (zy190, prog_5_method_1_code, 2, (Option.none : Option Jvm.ClassFile.FieldType)),
  (zy191, prog_5_method_2_code, 1, (Option.some Jvm.ClassFile.FieldType.boolean)),
  (zy192, prog_5_method_3_code, 3, (Option.none : Option Jvm.ClassFile.FieldType)),
  (zy193, prog_5_method_4_code, 1, (Option.none : Option Jvm.ClassFile.FieldType)),
  (zy194, prog_5_method_5_code, 4, (Option.some Jvm.ClassFile.FieldType.boolean)),
  (zy195, prog_5_method_6_code, 2, (Option.some Jvm.ClassFile.FieldType.int)),
  (zy196, prog_6_method_1_code, 1, (Option.none : Option Jvm.ClassFile.FieldType)),
  (zy197, prog_6_method_2_code, 6, (Option.some Jvm.ClassFile.FieldType.long)),
  (zy198, prog_6_method_3_code, 1, (Option.some Jvm.ClassFile.FieldType.boolean)),
  (zy199, prog_6_method_4_code, 1, (Option.some Jvm.ClassFile.FieldType.int)),
  (zy200, prog_6_method_5_code, 2, (Option.some Jvm.ClassFile.FieldType.boolean)),
  (zy201, prog_6_method_6_code, 3, (Option.some Jvm.ClassFile.FieldType.boolean)),
  (zy202, prog_6_method_7_code, 10, (Option.some Jvm.ClassFile.FieldType.boolean)),
  (zy203, prog_6_method_8_code, 4, (Option.none : Option Jvm.ClassFile.FieldType)),
  (zy204, prog_6_method_9_code, 4, (Option.some Jvm.ClassFile.FieldType.int)),
  (zy205, prog_6_method_10_code, 3, (Option.some Jvm.ClassFile.FieldType.int)),
  (zy206, prog_6_method_11_code, 2, (Option.some Jvm.ClassFile.FieldType.boolean)),
  (zy207, prog_6_method_12_code, 3, (Option.some Jvm.ClassFile.FieldType.long)),
  (zy208, prog_6_method_13_code, 4, (Option.some Jvm.ClassFile.FieldType.boolean)),
  (zy209, prog_6_method_14_code, 4, (Option.none : Option Jvm.ClassFile.FieldType)),
  (zy210, prog_6_method_15_code, 8, (Option.some Jvm.ClassFile.FieldType.int)),
  (zy211, prog_6_method_16_code, 2, (Option.some (Jvm.ClassFile.FieldType.object "QuotaPeers$Command"))),
  (zy212, prog_6_method_17_code, 2, (Option.some Jvm.ClassFile.FieldType.boolean)),
  (zy213, prog_6_method_18_code, 6, (Option.some Jvm.ClassFile.FieldType.boolean)),
  (zy214, prog_6_method_19_code, 5, (Option.none : Option Jvm.ClassFile.FieldType)),
  (zy215, prog_6_method_20_code, 1, (Option.some Jvm.ClassFile.FieldType.boolean)),
  (zy216, prog_7_method_1_code, 1, (Option.none : Option Jvm.ClassFile.FieldType)),
  (zy217, prog_7_method_2_code, 5, (Option.none : Option Jvm.ClassFile.FieldType)),
  (zy218, prog_7_method_3_code, 6, (Option.none : Option Jvm.ClassFile.FieldType)),
  (zy219, prog_7_method_4_code, 6, (Option.none : Option Jvm.ClassFile.FieldType)),
  (zy220, prog_7_method_5_code, 1, (Option.none : Option Jvm.ClassFile.FieldType)),
  (zy221, prog_7_method_6_code, 3, (Option.none : Option Jvm.ClassFile.FieldType)),
  (zy222, prog_7_method_7_code, 1, (Option.none : Option Jvm.ClassFile.FieldType)),
  (zy223, prog_7_method_8_code, 4, (Option.none : Option Jvm.ClassFile.FieldType)),
  (zy224, prog_7_method_9_code, 3, (Option.none : Option Jvm.ClassFile.FieldType)),
  (zy225, prog_7_method_10_code, 5, (Option.none : Option Jvm.ClassFile.FieldType)),
  (zy226, prog_7_method_11_code, 1, (Option.none : Option Jvm.ClassFile.FieldType)),
  (zy227, prog_7_method_12_code, 4, (Option.none : Option Jvm.ClassFile.FieldType)),
  (zy228, prog_7_method_13_code, 2, (Option.none : Option Jvm.ClassFile.FieldType)),
  (zy229, prog_8_method_1_code, 4, (Option.none : Option Jvm.ClassFile.FieldType)),
  (zy230, prog_8_method_2_code, 1, (Option.some Jvm.ClassFile.FieldType.boolean)),
  (zy231, prog_8_method_3_code, 1, (Option.some Jvm.ClassFile.FieldType.boolean)),
  (zy232, prog_8_method_4_code, 1, (Option.some (Jvm.ClassFile.FieldType.object "QuotaPeers$Link"))),
  (zy233, prog_8_method_5_code, 1, (Option.some Jvm.ClassFile.FieldType.boolean)),
  (zy234, prog_9_method_1_code, 1, (Option.none : Option Jvm.ClassFile.FieldType)),
  (zy235, prog_10_method_1_code, 1, (Option.none : Option Jvm.ClassFile.FieldType)),
  (zy236, prog_10_method_2_code, 3, (Option.none : Option Jvm.ClassFile.FieldType)),
  (zy237, prog_10_method_3_code, 3, (Option.none : Option Jvm.ClassFile.FieldType)),
  (zy238, prog_11_method_1_code, 1, (Option.none : Option Jvm.ClassFile.FieldType)),
  (zy239, prog_11_method_2_code, 1, (Option.none : Option Jvm.ClassFile.FieldType)),
  (zy240, prog_11_method_3_code, 2, (Option.none : Option Jvm.ClassFile.FieldType)),
  (zy241, prog_11_method_4_code, 2, (Option.none : Option Jvm.ClassFile.FieldType)),
  (zy242, prog_11_method_5_code, 4, (Option.none : Option Jvm.ClassFile.FieldType)),
  (zy243, prog_11_method_6_code, 4, (Option.some Jvm.ClassFile.FieldType.boolean)),
  (zy244, prog_11_method_7_code, 6, (Option.some Jvm.ClassFile.FieldType.boolean)),
  (zy245, prog_11_method_8_code, 3, (Option.some Jvm.ClassFile.FieldType.boolean)),
  (zy246, prog_11_method_9_code, 7, (Option.none : Option Jvm.ClassFile.FieldType)),
  (zy247, prog_4_method_1_code, 0, (Option.some (Jvm.ClassFile.FieldType.array (Jvm.ClassFile.FieldType.object "QuotaPeers$Command"))))
  ] : List (MethodName × ByteArray × Nat × Option FieldType)).getD y (zy0, ⟨#[]⟩, 0, none)
theorem zt0 : z_tb 0 = (zy0, prog_1_method_1_code, 1, (Option.some Jvm.ClassFile.FieldType.boolean)) := rfl
theorem zt1 : z_tb 1 = (zy1, prog_1_method_2_code, 2, (Option.none : Option Jvm.ClassFile.FieldType)) := rfl
theorem zt2 : z_tb 2 = (zy2, prog_1_method_3_code, 6, (Option.some Jvm.ClassFile.FieldType.boolean)) := rfl
theorem zt3 : z_tb 3 = (zy3, prog_1_method_4_code, 5, (Option.some Jvm.ClassFile.FieldType.int)) := rfl
theorem zt4 : z_tb 4 = (zy4, prog_1_method_5_code, 1, (Option.some Jvm.ClassFile.FieldType.int)) := rfl
theorem zt5 : z_tb 5 = (zy5, prog_1_method_6_code, 4, (Option.some Jvm.ClassFile.FieldType.int)) := rfl
theorem zt6 : z_tb 6 = (zy6, prog_1_method_7_code, 2, (Option.some (Jvm.ClassFile.FieldType.object "QuotaPeers$Peer"))) := rfl
theorem zt7 : z_tb 7 = (zy7, prog_1_method_8_code, 2, (Option.some (Jvm.ClassFile.FieldType.object "QuotaPeers$Link"))) := rfl
theorem zt8 : z_tb 8 = (zy8, prog_1_method_9_code, 5, (Option.some (Jvm.ClassFile.FieldType.object "QuotaPeers$Link"))) := rfl
theorem zt9 : z_tb 9 = (zy9, prog_1_method_10_code, 2, (Option.none : Option Jvm.ClassFile.FieldType)) := rfl
theorem zt10 : z_tb 10 = (zy10, prog_1_method_11_code, 5, (Option.none : Option Jvm.ClassFile.FieldType)) := rfl
theorem zt11 : z_tb 11 = (zy11, prog_1_method_12_code, 1, (Option.none : Option Jvm.ClassFile.FieldType)) := rfl
theorem zt12 : z_tb 12 = (zy12, prog_1_method_13_code, 1, (Option.none : Option Jvm.ClassFile.FieldType)) := rfl
theorem zt13 : z_tb 13 = (zy13, prog_1_method_14_code, 2, (Option.none : Option Jvm.ClassFile.FieldType)) := rfl
theorem zt14 : z_tb 14 = (zy14, prog_1_method_15_code, 2, (Option.none : Option Jvm.ClassFile.FieldType)) := rfl
theorem zt15 : z_tb 15 = (zy15, prog_1_method_16_code, 7, (Option.none : Option Jvm.ClassFile.FieldType)) := rfl
theorem zt16 : z_tb 16 = (zy16, prog_1_method_17_code, 4, (Option.none : Option Jvm.ClassFile.FieldType)) := rfl
theorem zt17 : z_tb 17 = (zy17, prog_1_method_18_code, 3, (Option.none : Option Jvm.ClassFile.FieldType)) := rfl
theorem zt18 : z_tb 18 = (zy18, prog_1_method_19_code, 4, (Option.none : Option Jvm.ClassFile.FieldType)) := rfl
theorem zt19 : z_tb 19 = (zy19, prog_1_method_20_code, 2, (Option.none : Option Jvm.ClassFile.FieldType)) := rfl
theorem zt20 : z_tb 20 = (zy20, prog_1_method_21_code, 1, (Option.none : Option Jvm.ClassFile.FieldType)) := rfl
theorem zt21 : z_tb 21 = (zy21, prog_1_method_22_code, 1, (Option.none : Option Jvm.ClassFile.FieldType)) := rfl
theorem zt22 : z_tb 22 = (zy22, prog_1_method_23_code, 4, (Option.none : Option Jvm.ClassFile.FieldType)) := rfl
theorem zt23 : z_tb 23 = (zy23, prog_1_method_24_code, 2, (Option.none : Option Jvm.ClassFile.FieldType)) := rfl
theorem zt24 : z_tb 24 = (zy24, prog_1_method_25_code, 2, (Option.none : Option Jvm.ClassFile.FieldType)) := rfl
theorem zt25 : z_tb 25 = (zy25, prog_1_method_26_code, 2, (Option.none : Option Jvm.ClassFile.FieldType)) := rfl
theorem zt26 : z_tb 26 = (zy26, prog_1_method_27_code, 2, (Option.none : Option Jvm.ClassFile.FieldType)) := rfl
theorem zt27 : z_tb 27 = (zy27, prog_1_method_28_code, 2, (Option.none : Option Jvm.ClassFile.FieldType)) := rfl
theorem zt28 : z_tb 28 = (zy28, prog_1_method_29_code, 4, (Option.none : Option Jvm.ClassFile.FieldType)) := rfl
theorem zt29 : z_tb 29 = (zy29, prog_1_method_30_code, 3, (Option.none : Option Jvm.ClassFile.FieldType)) := rfl
theorem zt30 : z_tb 30 = (zy30, prog_1_method_31_code, 4, (Option.some Jvm.ClassFile.FieldType.int)) := rfl
theorem zt31 : z_tb 31 = (zy31, prog_1_method_32_code, 2, (Option.some Jvm.ClassFile.FieldType.int)) := rfl
theorem zt32 : z_tb 32 = (zy32, prog_1_method_33_code, 5, (Option.some Jvm.ClassFile.FieldType.int)) := rfl
theorem zt33 : z_tb 33 = (zy33, prog_1_method_34_code, 3, (Option.some Jvm.ClassFile.FieldType.int)) := rfl
theorem zt34 : z_tb 34 = (zy34, prog_1_method_35_code, 4, (Option.some Jvm.ClassFile.FieldType.int)) := rfl
theorem zt35 : z_tb 35 = (zy35, prog_1_method_36_code, 17, (Option.some Jvm.ClassFile.FieldType.int)) := rfl
theorem zt36 : z_tb 36 = (zy36, prog_1_method_37_code, 4, (Option.none : Option Jvm.ClassFile.FieldType)) := rfl
theorem zt37 : z_tb 37 = (zy37, prog_1_method_38_code, 3, (Option.some Jvm.ClassFile.FieldType.boolean)) := rfl
theorem zt38 : z_tb 38 = (zy38, prog_1_method_39_code, 5, (Option.none : Option Jvm.ClassFile.FieldType)) := rfl
theorem zt39 : z_tb 39 = (zy39, prog_1_method_40_code, 3, (Option.some Jvm.ClassFile.FieldType.boolean)) := rfl
theorem zt40 : z_tb 40 = (zy40, prog_1_method_41_code, 4, (Option.none : Option Jvm.ClassFile.FieldType)) := rfl
theorem zt41 : z_tb 41 = (zy41, prog_1_method_42_code, 5, (Option.some Jvm.ClassFile.FieldType.boolean)) := rfl
theorem zt42 : z_tb 42 = (zy42, prog_1_method_43_code, 3, (Option.none : Option Jvm.ClassFile.FieldType)) := rfl
theorem zt43 : z_tb 43 = (zy43, prog_1_method_44_code, 2, (Option.some (Jvm.ClassFile.FieldType.object "QuotaPeers$Peer"))) := rfl
theorem zt44 : z_tb 44 = (zy44, prog_1_method_45_code, 5, (Option.none : Option Jvm.ClassFile.FieldType)) := rfl
theorem zt45 : z_tb 45 = (zy45, prog_1_method_46_code, 4, (Option.none : Option Jvm.ClassFile.FieldType)) := rfl
theorem zt46 : z_tb 46 = (zy46, prog_1_method_47_code, 5, (Option.some Jvm.ClassFile.FieldType.int)) := rfl
theorem zt47 : z_tb 47 = (zy47, prog_1_method_48_code, 5, (Option.none : Option Jvm.ClassFile.FieldType)) := rfl
theorem zt48 : z_tb 48 = (zy48, prog_1_method_49_code, 4, (Option.none : Option Jvm.ClassFile.FieldType)) := rfl
theorem zt49 : z_tb 49 = (zy49, prog_1_method_50_code, 1, (Option.none : Option Jvm.ClassFile.FieldType)) := rfl
theorem zt50 : z_tb 50 = (zy50, prog_1_method_51_code, 3, (Option.none : Option Jvm.ClassFile.FieldType)) := rfl
theorem zt51 : z_tb 51 = (zy51, prog_1_method_52_code, 3, (Option.some (Jvm.ClassFile.FieldType.object "QuotaPeers$Answer"))) := rfl
theorem zt52 : z_tb 52 = (zy52, prog_1_method_53_code, 3, (Option.none : Option Jvm.ClassFile.FieldType)) := rfl
theorem zt53 : z_tb 53 = (zy53, prog_1_method_54_code, 6, (Option.none : Option Jvm.ClassFile.FieldType)) := rfl
theorem zt54 : z_tb 54 = (zy54, prog_1_method_55_code, 3, (Option.some Jvm.ClassFile.FieldType.long)) := rfl
theorem zt55 : z_tb 55 = (zy55, prog_1_method_56_code, 3, (Option.some Jvm.ClassFile.FieldType.boolean)) := rfl
theorem zt56 : z_tb 56 = (zy56, prog_1_method_57_code, 4, (Option.some (Jvm.ClassFile.FieldType.object "QuotaPeers$Account"))) := rfl
theorem zt57 : z_tb 57 = (zy57, prog_1_method_58_code, 7, (Option.some (Jvm.ClassFile.FieldType.object "QuotaPeers$Account"))) := rfl
theorem zt58 : z_tb 58 = (zy58, prog_1_method_59_code, 3, (Option.some (Jvm.ClassFile.FieldType.object "QuotaPeers$Session"))) := rfl
theorem zt59 : z_tb 59 = (zy59, prog_1_method_60_code, 6, (Option.some Jvm.ClassFile.FieldType.int)) := rfl
theorem zt60 : z_tb 60 = (zy60, prog_1_method_61_code, 3, (Option.none : Option Jvm.ClassFile.FieldType)) := rfl
theorem zt61 : z_tb 61 = (zy61, prog_1_method_62_code, 5, (Option.some Jvm.ClassFile.FieldType.int)) := rfl
theorem zt62 : z_tb 62 = (zy62, prog_1_method_63_code, 5, (Option.some Jvm.ClassFile.FieldType.int)) := rfl
theorem zt63 : z_tb 63 = (zy63, prog_1_method_64_code, 1, (Option.some Jvm.ClassFile.FieldType.long)) := rfl
theorem zt64 : z_tb 64 = (zy64, prog_1_method_65_code, 4, (Option.some Jvm.ClassFile.FieldType.int)) := rfl
theorem zt65 : z_tb 65 = (zy65, prog_1_method_66_code, 3, (Option.none : Option Jvm.ClassFile.FieldType)) := rfl
theorem zt66 : z_tb 66 = (zy66, prog_1_method_67_code, 3, (Option.some Jvm.ClassFile.FieldType.int)) := rfl
theorem zt67 : z_tb 67 = (zy67, prog_1_method_68_code, 6, (Option.some Jvm.ClassFile.FieldType.int)) := rfl
theorem zt68 : z_tb 68 = (zy68, prog_1_method_69_code, 4, (Option.some Jvm.ClassFile.FieldType.int)) := rfl
theorem zt69 : z_tb 69 = (zy69, prog_1_method_70_code, 4, (Option.some Jvm.ClassFile.FieldType.int)) := rfl
theorem zt70 : z_tb 70 = (zy70, prog_1_method_71_code, 3, (Option.some Jvm.ClassFile.FieldType.int)) := rfl
theorem zt71 : z_tb 71 = (zy71, prog_1_method_72_code, 1, (Option.some Jvm.ClassFile.FieldType.int)) := rfl
theorem zt72 : z_tb 72 = (zy72, prog_1_method_73_code, 3, (Option.some Jvm.ClassFile.FieldType.int)) := rfl
theorem zt73 : z_tb 73 = (zy73, prog_1_method_74_code, 3, (Option.some Jvm.ClassFile.FieldType.int)) := rfl
theorem zt74 : z_tb 74 = (zy74, prog_1_method_75_code, 4, (Option.some Jvm.ClassFile.FieldType.int)) := rfl
theorem zt75 : z_tb 75 = (zy75, prog_1_method_76_code, 4, (Option.some Jvm.ClassFile.FieldType.int)) := rfl
theorem zt76 : z_tb 76 = (zy76, prog_1_method_77_code, 5, (Option.some Jvm.ClassFile.FieldType.int)) := rfl
theorem zt77 : z_tb 77 = (zy77, prog_1_method_78_code, 5, (Option.some Jvm.ClassFile.FieldType.long)) := rfl
theorem zt78 : z_tb 78 = (zy78, prog_1_method_79_code, 1, (Option.some Jvm.ClassFile.FieldType.int)) := rfl
theorem zt79 : z_tb 79 = (zy79, prog_1_method_80_code, 4, (Option.some Jvm.ClassFile.FieldType.int)) := rfl
theorem zt80 : z_tb 80 = (zy80, prog_1_method_81_code, 2, (Option.some Jvm.ClassFile.FieldType.long)) := rfl
theorem zt81 : z_tb 81 = (zy81, prog_1_method_82_code, 4, (Option.some Jvm.ClassFile.FieldType.int)) := rfl
theorem zt82 : z_tb 82 = (zy82, prog_1_method_83_code, 1, (Option.some Jvm.ClassFile.FieldType.int)) := rfl
theorem zt83 : z_tb 83 = (zy83, prog_1_method_84_code, 1, (Option.some Jvm.ClassFile.FieldType.int)) := rfl
theorem zt84 : z_tb 84 = (zy84, prog_13_method_1_code, 1, (Option.none : Option Jvm.ClassFile.FieldType)) := rfl
theorem zt85 : z_tb 85 = (zy85, prog_13_method_3_code, 3, (Option.some Jvm.ClassFile.FieldType.boolean)) := rfl
theorem zt86 : z_tb 86 = (zy86, prog_13_method_4_code, 1, (Option.some Jvm.ClassFile.FieldType.boolean)) := rfl
theorem zt87 : z_tb 87 = (zy87, prog_13_method_5_code, 5, (Option.some Jvm.ClassFile.FieldType.int)) := rfl
theorem zt88 : z_tb 88 = (zy88, prog_13_method_6_code, 2, (Option.some Jvm.ClassFile.FieldType.int)) := rfl
theorem zt89 : z_tb 89 = (zy89, prog_13_method_7_code, 6, (Option.some Jvm.ClassFile.FieldType.int)) := rfl
theorem zt90 : z_tb 90 = (zy90, prog_13_method_8_code, 3, (Option.some Jvm.ClassFile.FieldType.boolean)) := rfl
theorem zt91 : z_tb 91 = (zy91, prog_13_method_9_code, 4, (Option.none : Option Jvm.ClassFile.FieldType)) := rfl
theorem zt92 : z_tb 92 = (zy92, prog_13_method_10_code, 6, (Option.none : Option Jvm.ClassFile.FieldType)) := rfl
theorem zt93 : z_tb 93 = (zy93, prog_13_method_11_code, 3, (Option.none : Option Jvm.ClassFile.FieldType)) := rfl
theorem zt94 : z_tb 94 = (zy94, prog_13_method_12_code, 3, (Option.none : Option Jvm.ClassFile.FieldType)) := rfl
theorem zt95 : z_tb 95 = (zy95, prog_13_method_13_code, 1, (Option.none : Option Jvm.ClassFile.FieldType)) := rfl
theorem zt96 : z_tb 96 = (zy96, prog_13_method_14_code, 6, (Option.none : Option Jvm.ClassFile.FieldType)) := rfl
theorem zt97 : z_tb 97 = (zy97, prog_13_method_15_code, 1, (Option.none : Option Jvm.ClassFile.FieldType)) := rfl
theorem zt98 : z_tb 98 = (zy98, prog_13_method_16_code, 1, (Option.none : Option Jvm.ClassFile.FieldType)) := rfl
theorem zt99 : z_tb 99 = (zy99, prog_13_method_17_code, 3, (Option.none : Option Jvm.ClassFile.FieldType)) := rfl
theorem zt100 : z_tb 100 = (zy100, prog_13_method_18_code, 1, (Option.some Jvm.ClassFile.FieldType.int)) := rfl
theorem zt101 : z_tb 101 = (zy101, prog_13_method_19_code, 2, (Option.some Jvm.ClassFile.FieldType.int)) := rfl
theorem zt102 : z_tb 102 = (zy102, prog_13_method_20_code, 2, (Option.none : Option Jvm.ClassFile.FieldType)) := rfl
theorem zt103 : z_tb 103 = (zy103, prog_13_method_21_code, 2, (Option.none : Option Jvm.ClassFile.FieldType)) := rfl
theorem zt104 : z_tb 104 = (zy104, prog_13_method_22_code, 3, (Option.none : Option Jvm.ClassFile.FieldType)) := rfl
theorem zt105 : z_tb 105 = (zy105, prog_13_method_23_code, 2, (Option.some Jvm.ClassFile.FieldType.int)) := rfl
theorem zt106 : z_tb 106 = (zy106, prog_13_method_24_code, 2, (Option.some Jvm.ClassFile.FieldType.int)) := rfl
theorem zt107 : z_tb 107 = (zy107, prog_13_method_25_code, 2, (Option.some Jvm.ClassFile.FieldType.int)) := rfl
theorem zt108 : z_tb 108 = (zy108, prog_13_method_26_code, 2, (Option.some Jvm.ClassFile.FieldType.long)) := rfl
theorem zt109 : z_tb 109 = (zy109, prog_13_method_27_code, 1, (Option.some Jvm.ClassFile.FieldType.int)) := rfl
theorem zt110 : z_tb 110 = (zy110, prog_13_method_28_code, 2, (Option.some Jvm.ClassFile.FieldType.boolean)) := rfl
theorem zt111 : z_tb 111 = (zy111, prog_13_method_29_code, 3, (Option.none : Option Jvm.ClassFile.FieldType)) := rfl
theorem zt112 : z_tb 112 = (zy112, prog_13_method_30_code, 6, (Option.none : Option Jvm.ClassFile.FieldType)) := rfl
theorem zt113 : z_tb 113 = (zy113, prog_13_method_31_code, 4, (Option.some Jvm.ClassFile.FieldType.int)) := rfl
theorem zt114 : z_tb 114 = (zy114, prog_13_method_32_code, 10, (Option.none : Option Jvm.ClassFile.FieldType)) := rfl
theorem zt115 : z_tb 115 = (zy115, prog_13_method_33_code, 1, (Option.some Jvm.ClassFile.FieldType.boolean)) := rfl
theorem zt116 : z_tb 116 = (zy116, prog_13_method_34_code, 2, (Option.some Jvm.ClassFile.FieldType.int)) := rfl
theorem zt117 : z_tb 117 = (zy117, prog_13_method_35_code, 3, (Option.none : Option Jvm.ClassFile.FieldType)) := rfl
theorem zt118 : z_tb 118 = (zy118, prog_13_method_36_code, 2, (Option.none : Option Jvm.ClassFile.FieldType)) := rfl
theorem zt119 : z_tb 119 = (zy119, prog_13_method_37_code, 7, (Option.some Jvm.ClassFile.FieldType.boolean)) := rfl
theorem zt120 : z_tb 120 = (zy120, prog_13_method_38_code, 2, (Option.none : Option Jvm.ClassFile.FieldType)) := rfl
theorem zt121 : z_tb 121 = (zy121, prog_13_method_39_code, 2, (Option.none : Option Jvm.ClassFile.FieldType)) := rfl
theorem zt122 : z_tb 122 = (zy122, prog_13_method_40_code, 3, (Option.none : Option Jvm.ClassFile.FieldType)) := rfl
theorem zt123 : z_tb 123 = (zy123, prog_13_method_41_code, 2, (Option.none : Option Jvm.ClassFile.FieldType)) := rfl
theorem zt124 : z_tb 124 = (zy124, prog_13_method_42_code, 3, (Option.none : Option Jvm.ClassFile.FieldType)) := rfl
theorem zt125 : z_tb 125 = (zy125, prog_13_method_43_code, 3, (Option.some Jvm.ClassFile.FieldType.int)) := rfl
theorem zt126 : z_tb 126 = (zy126, prog_13_method_44_code, 5, (Option.none : Option Jvm.ClassFile.FieldType)) := rfl
theorem zt127 : z_tb 127 = (zy127, prog_13_method_45_code, 2, (Option.none : Option Jvm.ClassFile.FieldType)) := rfl
theorem zt128 : z_tb 128 = (zy128, prog_13_method_46_code, 2, (Option.none : Option Jvm.ClassFile.FieldType)) := rfl
theorem zt129 : z_tb 129 = (zy129, prog_13_method_47_code, 4, (Option.none : Option Jvm.ClassFile.FieldType)) := rfl
theorem zt130 : z_tb 130 = (zy130, prog_13_method_48_code, 2, (Option.none : Option Jvm.ClassFile.FieldType)) := rfl
theorem zt131 : z_tb 131 = (zy131, prog_13_method_49_code, 2, (Option.some Jvm.ClassFile.FieldType.boolean)) := rfl
theorem zt132 : z_tb 132 = (zy132, prog_13_method_50_code, 2, (Option.some Jvm.ClassFile.FieldType.int)) := rfl
theorem zt133 : z_tb 133 = (zy133, prog_13_method_51_code, 3, (Option.none : Option Jvm.ClassFile.FieldType)) := rfl
theorem zt134 : z_tb 134 = (zy134, prog_13_method_52_code, 4, (Option.none : Option Jvm.ClassFile.FieldType)) := rfl
theorem zt135 : z_tb 135 = (zy135, prog_13_method_53_code, 4, (Option.some Jvm.ClassFile.FieldType.int)) := rfl
theorem zt136 : z_tb 136 = (zy136, prog_13_method_54_code, 5, (Option.some Jvm.ClassFile.FieldType.int)) := rfl
theorem zt137 : z_tb 137 = (zy137, prog_13_method_55_code, 2, (Option.some Jvm.ClassFile.FieldType.int)) := rfl
theorem zt138 : z_tb 138 = (zy138, prog_13_method_56_code, 5, (Option.none : Option Jvm.ClassFile.FieldType)) := rfl
theorem zt139 : z_tb 139 = (zy139, prog_13_method_57_code, 6, (Option.none : Option Jvm.ClassFile.FieldType)) := rfl
theorem zt140 : z_tb 140 = (zy140, prog_13_method_58_code, 3, (Option.none : Option Jvm.ClassFile.FieldType)) := rfl
theorem zt141 : z_tb 141 = (zy141, prog_13_method_59_code, 2, (Option.some Jvm.ClassFile.FieldType.long)) := rfl
theorem zt142 : z_tb 142 = (zy142, prog_13_method_60_code, 4, (Option.some Jvm.ClassFile.FieldType.long)) := rfl
theorem zt143 : z_tb 143 = (zy143, prog_13_method_61_code, 1, (Option.some Jvm.ClassFile.FieldType.long)) := rfl
theorem zt144 : z_tb 144 = (zy144, prog_13_method_62_code, 3, (Option.none : Option Jvm.ClassFile.FieldType)) := rfl
theorem zt145 : z_tb 145 = (zy145, prog_13_method_63_code, 13, (Option.some Jvm.ClassFile.FieldType.int)) := rfl
theorem zt146 : z_tb 146 = (zy146, prog_13_method_64_code, 3, (Option.none : Option Jvm.ClassFile.FieldType)) := rfl
theorem zt147 : z_tb 147 = (zy147, prog_13_method_65_code, 5, (Option.none : Option Jvm.ClassFile.FieldType)) := rfl
theorem zt148 : z_tb 148 = (zy148, prog_13_method_66_code, 4, (Option.some Jvm.ClassFile.FieldType.int)) := rfl
theorem zt149 : z_tb 149 = (zy149, prog_13_method_67_code, 5, (Option.some Jvm.ClassFile.FieldType.int)) := rfl
theorem zt150 : z_tb 150 = (zy150, prog_13_method_68_code, 1, (Option.none : Option Jvm.ClassFile.FieldType)) := rfl
theorem zt151 : z_tb 151 = (zy151, prog_13_method_69_code, 3, (Option.none : Option Jvm.ClassFile.FieldType)) := rfl
theorem zt152 : z_tb 152 = (zy152, prog_13_method_70_code, 2, (Option.none : Option Jvm.ClassFile.FieldType)) := rfl
theorem zt153 : z_tb 153 = (zy153, prog_13_method_71_code, 4, (Option.some Jvm.ClassFile.FieldType.boolean)) := rfl
theorem zt154 : z_tb 154 = (zy154, prog_13_method_72_code, 3, (Option.none : Option Jvm.ClassFile.FieldType)) := rfl
theorem zt155 : z_tb 155 = (zy155, prog_13_method_73_code, 4, (Option.none : Option Jvm.ClassFile.FieldType)) := rfl
theorem zt156 : z_tb 156 = (zy156, prog_13_method_74_code, 3, (Option.some Jvm.ClassFile.FieldType.boolean)) := rfl
theorem zt157 : z_tb 157 = (zy157, prog_13_method_75_code, 4, (Option.none : Option Jvm.ClassFile.FieldType)) := rfl
theorem zt158 : z_tb 158 = (zy158, prog_13_method_76_code, 3, (Option.none : Option Jvm.ClassFile.FieldType)) := rfl
theorem zt159 : z_tb 159 = (zy159, prog_13_method_77_code, 4, (Option.none : Option Jvm.ClassFile.FieldType)) := rfl
theorem zt160 : z_tb 160 = (zy160, prog_13_method_78_code, 3, (Option.none : Option Jvm.ClassFile.FieldType)) := rfl
theorem zt161 : z_tb 161 = (zy161, prog_13_method_79_code, 6, (Option.none : Option Jvm.ClassFile.FieldType)) := rfl
theorem zt162 : z_tb 162 = (zy162, prog_13_method_80_code, 2, (Option.some Jvm.ClassFile.FieldType.boolean)) := rfl
theorem zt163 : z_tb 163 = (zy163, prog_13_method_81_code, 3, (Option.some Jvm.ClassFile.FieldType.int)) := rfl
theorem zt164 : z_tb 164 = (zy164, prog_13_method_82_code, 3, (Option.some Jvm.ClassFile.FieldType.int)) := rfl
theorem zt165 : z_tb 165 = (zy165, prog_13_method_83_code, 2, (Option.some Jvm.ClassFile.FieldType.int)) := rfl
theorem zt166 : z_tb 166 = (zy166, prog_13_method_84_code, 4, (Option.some Jvm.ClassFile.FieldType.int)) := rfl
theorem zt167 : z_tb 167 = (zy167, prog_13_method_85_code, 16, (Option.some Jvm.ClassFile.FieldType.int)) := rfl
theorem zt168 : z_tb 168 = (zy168, prog_13_method_86_code, 2, (Option.some Jvm.ClassFile.FieldType.int)) := rfl
theorem zt169 : z_tb 169 = (zy169, prog_13_method_87_code, 4, (Option.some Jvm.ClassFile.FieldType.int)) := rfl
theorem zt170 : z_tb 170 = (zy170, prog_13_method_88_code, 3, (Option.none : Option Jvm.ClassFile.FieldType)) := rfl
theorem zt171 : z_tb 171 = (zy171, prog_13_method_89_code, 5, (Option.some Jvm.ClassFile.FieldType.int)) := rfl
theorem zt172 : z_tb 172 = (zy172, prog_13_method_90_code, 1, (Option.some Jvm.ClassFile.FieldType.int)) := rfl
theorem zt173 : z_tb 173 = (zy173, prog_13_method_91_code, 3, (Option.some Jvm.ClassFile.FieldType.int)) := rfl
theorem zt174 : z_tb 174 = (zy174, prog_13_method_92_code, 2, (Option.some Jvm.ClassFile.FieldType.int)) := rfl
theorem zt175 : z_tb 175 = (zy175, prog_13_method_93_code, 3, (Option.some Jvm.ClassFile.FieldType.int)) := rfl
theorem zt176 : z_tb 176 = (zy176, prog_13_method_94_code, 4, (Option.some Jvm.ClassFile.FieldType.int)) := rfl
theorem zt177 : z_tb 177 = (zy177, prog_13_method_95_code, 5, (Option.some Jvm.ClassFile.FieldType.int)) := rfl
theorem zt178 : z_tb 178 = (zy178, prog_13_method_96_code, 5, (Option.some Jvm.ClassFile.FieldType.long)) := rfl
theorem zt179 : z_tb 179 = (zy179, prog_13_method_97_code, 1, (Option.some Jvm.ClassFile.FieldType.int)) := rfl
theorem zt180 : z_tb 180 = (zy180, prog_13_method_98_code, 3, (Option.some Jvm.ClassFile.FieldType.int)) := rfl
theorem zt181 : z_tb 181 = (zy181, prog_13_method_99_code, 2, (Option.some Jvm.ClassFile.FieldType.long)) := rfl
theorem zt182 : z_tb 182 = (zy182, prog_13_method_100_code, 3, (Option.some Jvm.ClassFile.FieldType.int)) := rfl
theorem zt183 : z_tb 183 = (zy183, prog_13_method_101_code, 3, (Option.some Jvm.ClassFile.FieldType.int)) := rfl
theorem zt184 : z_tb 184 = (zy184, prog_13_method_102_code, 1, (Option.some Jvm.ClassFile.FieldType.int)) := rfl
theorem zt185 : z_tb 185 = (zy185, prog_13_method_103_code, 1, (Option.some Jvm.ClassFile.FieldType.int)) := rfl
theorem zt186 : z_tb 186 = (zy186, prog_2_method_1_code, 5, (Option.none : Option Jvm.ClassFile.FieldType)) := rfl
theorem zt187 : z_tb 187 = (zy187, prog_2_method_2_code, 1, (Option.some Jvm.ClassFile.FieldType.long)) := rfl
theorem zt188 : z_tb 188 = (zy188, prog_2_method_3_code, 3, (Option.none : Option Jvm.ClassFile.FieldType)) := rfl
theorem zt189 : z_tb 189 = (zy189, prog_3_method_1_code, 1, (Option.none : Option Jvm.ClassFile.FieldType)) := rfl
theorem zt190 : z_tb 190 = (zy190, prog_5_method_1_code, 2, (Option.none : Option Jvm.ClassFile.FieldType)) := rfl
theorem zt191 : z_tb 191 = (zy191, prog_5_method_2_code, 1, (Option.some Jvm.ClassFile.FieldType.boolean)) := rfl
theorem zt192 : z_tb 192 = (zy192, prog_5_method_3_code, 3, (Option.none : Option Jvm.ClassFile.FieldType)) := rfl
theorem zt193 : z_tb 193 = (zy193, prog_5_method_4_code, 1, (Option.none : Option Jvm.ClassFile.FieldType)) := rfl
theorem zt194 : z_tb 194 = (zy194, prog_5_method_5_code, 4, (Option.some Jvm.ClassFile.FieldType.boolean)) := rfl
theorem zt195 : z_tb 195 = (zy195, prog_5_method_6_code, 2, (Option.some Jvm.ClassFile.FieldType.int)) := rfl
theorem zt196 : z_tb 196 = (zy196, prog_6_method_1_code, 1, (Option.none : Option Jvm.ClassFile.FieldType)) := rfl
theorem zt197 : z_tb 197 = (zy197, prog_6_method_2_code, 6, (Option.some Jvm.ClassFile.FieldType.long)) := rfl
theorem zt198 : z_tb 198 = (zy198, prog_6_method_3_code, 1, (Option.some Jvm.ClassFile.FieldType.boolean)) := rfl
theorem zt199 : z_tb 199 = (zy199, prog_6_method_4_code, 1, (Option.some Jvm.ClassFile.FieldType.int)) := rfl
theorem zt200 : z_tb 200 = (zy200, prog_6_method_5_code, 2, (Option.some Jvm.ClassFile.FieldType.boolean)) := rfl
theorem zt201 : z_tb 201 = (zy201, prog_6_method_6_code, 3, (Option.some Jvm.ClassFile.FieldType.boolean)) := rfl
theorem zt202 : z_tb 202 = (zy202, prog_6_method_7_code, 10, (Option.some Jvm.ClassFile.FieldType.boolean)) := rfl
theorem zt203 : z_tb 203 = (zy203, prog_6_method_8_code, 4, (Option.none : Option Jvm.ClassFile.FieldType)) := rfl
theorem zt204 : z_tb 204 = (zy204, prog_6_method_9_code, 4, (Option.some Jvm.ClassFile.FieldType.int)) := rfl
theorem zt205 : z_tb 205 = (zy205, prog_6_method_10_code, 3, (Option.some Jvm.ClassFile.FieldType.int)) := rfl
theorem zt206 : z_tb 206 = (zy206, prog_6_method_11_code, 2, (Option.some Jvm.ClassFile.FieldType.boolean)) := rfl
theorem zt207 : z_tb 207 = (zy207, prog_6_method_12_code, 3, (Option.some Jvm.ClassFile.FieldType.long)) := rfl
theorem zt208 : z_tb 208 = (zy208, prog_6_method_13_code, 4, (Option.some Jvm.ClassFile.FieldType.boolean)) := rfl
theorem zt209 : z_tb 209 = (zy209, prog_6_method_14_code, 4, (Option.none : Option Jvm.ClassFile.FieldType)) := rfl
theorem zt210 : z_tb 210 = (zy210, prog_6_method_15_code, 8, (Option.some Jvm.ClassFile.FieldType.int)) := rfl
theorem zt211 : z_tb 211 = (zy211, prog_6_method_16_code, 2, (Option.some (Jvm.ClassFile.FieldType.object "QuotaPeers$Command"))) := rfl
theorem zt212 : z_tb 212 = (zy212, prog_6_method_17_code, 2, (Option.some Jvm.ClassFile.FieldType.boolean)) := rfl
theorem zt213 : z_tb 213 = (zy213, prog_6_method_18_code, 6, (Option.some Jvm.ClassFile.FieldType.boolean)) := rfl
theorem zt214 : z_tb 214 = (zy214, prog_6_method_19_code, 5, (Option.none : Option Jvm.ClassFile.FieldType)) := rfl
theorem zt215 : z_tb 215 = (zy215, prog_6_method_20_code, 1, (Option.some Jvm.ClassFile.FieldType.boolean)) := rfl
theorem zt216 : z_tb 216 = (zy216, prog_7_method_1_code, 1, (Option.none : Option Jvm.ClassFile.FieldType)) := rfl
theorem zt217 : z_tb 217 = (zy217, prog_7_method_2_code, 5, (Option.none : Option Jvm.ClassFile.FieldType)) := rfl
theorem zt218 : z_tb 218 = (zy218, prog_7_method_3_code, 6, (Option.none : Option Jvm.ClassFile.FieldType)) := rfl
theorem zt219 : z_tb 219 = (zy219, prog_7_method_4_code, 6, (Option.none : Option Jvm.ClassFile.FieldType)) := rfl
theorem zt220 : z_tb 220 = (zy220, prog_7_method_5_code, 1, (Option.none : Option Jvm.ClassFile.FieldType)) := rfl
theorem zt221 : z_tb 221 = (zy221, prog_7_method_6_code, 3, (Option.none : Option Jvm.ClassFile.FieldType)) := rfl
theorem zt222 : z_tb 222 = (zy222, prog_7_method_7_code, 1, (Option.none : Option Jvm.ClassFile.FieldType)) := rfl
theorem zt223 : z_tb 223 = (zy223, prog_7_method_8_code, 4, (Option.none : Option Jvm.ClassFile.FieldType)) := rfl
theorem zt224 : z_tb 224 = (zy224, prog_7_method_9_code, 3, (Option.none : Option Jvm.ClassFile.FieldType)) := rfl
theorem zt225 : z_tb 225 = (zy225, prog_7_method_10_code, 5, (Option.none : Option Jvm.ClassFile.FieldType)) := rfl
theorem zt226 : z_tb 226 = (zy226, prog_7_method_11_code, 1, (Option.none : Option Jvm.ClassFile.FieldType)) := rfl
theorem zt227 : z_tb 227 = (zy227, prog_7_method_12_code, 4, (Option.none : Option Jvm.ClassFile.FieldType)) := rfl
theorem zt228 : z_tb 228 = (zy228, prog_7_method_13_code, 2, (Option.none : Option Jvm.ClassFile.FieldType)) := rfl
theorem zt229 : z_tb 229 = (zy229, prog_8_method_1_code, 4, (Option.none : Option Jvm.ClassFile.FieldType)) := rfl
theorem zt230 : z_tb 230 = (zy230, prog_8_method_2_code, 1, (Option.some Jvm.ClassFile.FieldType.boolean)) := rfl
theorem zt231 : z_tb 231 = (zy231, prog_8_method_3_code, 1, (Option.some Jvm.ClassFile.FieldType.boolean)) := rfl
theorem zt232 : z_tb 232 = (zy232, prog_8_method_4_code, 1, (Option.some (Jvm.ClassFile.FieldType.object "QuotaPeers$Link"))) := rfl
theorem zt233 : z_tb 233 = (zy233, prog_8_method_5_code, 1, (Option.some Jvm.ClassFile.FieldType.boolean)) := rfl
theorem zt234 : z_tb 234 = (zy234, prog_9_method_1_code, 1, (Option.none : Option Jvm.ClassFile.FieldType)) := rfl
theorem zt235 : z_tb 235 = (zy235, prog_10_method_1_code, 1, (Option.none : Option Jvm.ClassFile.FieldType)) := rfl
theorem zt236 : z_tb 236 = (zy236, prog_10_method_2_code, 3, (Option.none : Option Jvm.ClassFile.FieldType)) := rfl
theorem zt237 : z_tb 237 = (zy237, prog_10_method_3_code, 3, (Option.none : Option Jvm.ClassFile.FieldType)) := rfl
theorem zt238 : z_tb 238 = (zy238, prog_11_method_1_code, 1, (Option.none : Option Jvm.ClassFile.FieldType)) := rfl
theorem zt239 : z_tb 239 = (zy239, prog_11_method_2_code, 1, (Option.none : Option Jvm.ClassFile.FieldType)) := rfl
theorem zt240 : z_tb 240 = (zy240, prog_11_method_3_code, 2, (Option.none : Option Jvm.ClassFile.FieldType)) := rfl
theorem zt241 : z_tb 241 = (zy241, prog_11_method_4_code, 2, (Option.none : Option Jvm.ClassFile.FieldType)) := rfl
theorem zt242 : z_tb 242 = (zy242, prog_11_method_5_code, 4, (Option.none : Option Jvm.ClassFile.FieldType)) := rfl
theorem zt243 : z_tb 243 = (zy243, prog_11_method_6_code, 4, (Option.some Jvm.ClassFile.FieldType.boolean)) := rfl
theorem zt244 : z_tb 244 = (zy244, prog_11_method_7_code, 6, (Option.some Jvm.ClassFile.FieldType.boolean)) := rfl
theorem zt245 : z_tb 245 = (zy245, prog_11_method_8_code, 3, (Option.some Jvm.ClassFile.FieldType.boolean)) := rfl
theorem zt246 : z_tb 246 = (zy246, prog_11_method_9_code, 7, (Option.none : Option Jvm.ClassFile.FieldType)) := rfl
theorem zt247 : z_tb 247 = (zy247, prog_4_method_1_code, 0, (Option.some (Jvm.ClassFile.FieldType.array (Jvm.ClassFile.FieldType.object "QuotaPeers$Command")))) := rfl
section XF
variable {own : String} {cc : ByteArray} {nL d pc : Nat} {ini : Bool} {G : z_G} {l : Launch} {C : z_O}
theorem xg_0_8 {idx : Nat} (h : Cond.fieldLink own idx "QuotaPeers" "peerCount" "I" ∈ lw_all) (hd : decode cc pc = .ok (.getfield idx, 3)) : z_SO own cc nL ini d G l C pc 3 (zo_gI 0 8) := so_gI 0 8 (T := zT0) rfl zI0 rfl (by decide) (by decide) rfl rfl h hd
theorem xg_0_10 {idx : Nat} (h : Cond.fieldLink own idx "QuotaPeers" "accountCount" "I" ∈ lw_all) (hd : decode cc pc = .ok (.getfield idx, 3)) : z_SO own cc nL ini d G l C pc 3 (zo_gI 0 10) := so_gI 0 10 (T := zT0) rfl zI0 rfl (by decide) (by decide) rfl rfl h hd
theorem xg_0_12 {idx : Nat} (h : Cond.fieldLink own idx "QuotaPeers" "sessionCount" "I" ∈ lw_all) (hd : decode cc pc = .ok (.getfield idx, 3)) : z_SO own cc nL ini d G l C pc 3 (zo_gI 0 12) := so_gI 0 12 (T := zT0) rfl zI0 rfl (by decide) (by decide) rfl rfl h hd
theorem xg_0_14 {idx : Nat} (h : Cond.fieldLink own idx "QuotaPeers" "askCount" "I" ∈ lw_all) (hd : decode cc pc = .ok (.getfield idx, 3)) : z_SO own cc nL ini d G l C pc 3 (zo_gI 0 14) := so_gI 0 14 (T := zT0) rfl zI0 rfl (by decide) (by decide) rfl rfl h hd
theorem xg_0_16 {idx : Nat} (h : Cond.fieldLink own idx "QuotaPeers" "keepCount" "I" ∈ lw_all) (hd : decode cc pc = .ok (.getfield idx, 3)) : z_SO own cc nL ini d G l C pc 3 (zo_gI 0 16) := so_gI 0 16 (T := zT0) rfl zI0 rfl (by decide) (by decide) rfl rfl h hd
theorem xg_0_17 {idx : Nat} (h : Cond.fieldLink own idx "QuotaPeers" "now" "I" ∈ lw_all) (hd : decode cc pc = .ok (.getfield idx, 3)) : z_SO own cc nL ini d G l C pc 3 (zo_gI 0 17) := so_gI 0 17 (T := zT0) rfl zI0 rfl (by decide) (by decide) rfl rfl h hd
theorem xg_0_18 {idx : Nat} (h : Cond.fieldLink own idx "QuotaPeers" "hops" "I" ∈ lw_all) (hd : decode cc pc = .ok (.getfield idx, 3)) : z_SO own cc nL ini d G l C pc 3 (zo_gI 0 18) := so_gI 0 18 (T := zT0) rfl zI0 rfl (by decide) (by decide) rfl rfl h hd
theorem xg_0_19 {idx : Nat} (h : Cond.fieldLink own idx "QuotaPeers" "lost" "I" ∈ lw_all) (hd : decode cc pc = .ok (.getfield idx, 3)) : z_SO own cc nL ini d G l C pc 3 (zo_gI 0 19) := so_gI 0 19 (T := zT0) rfl zI0 rfl (by decide) (by decide) rfl rfl h hd
theorem xg_0_21 {idx : Nat} (h : Cond.fieldLink own idx "QuotaPeers" "enough" "I" ∈ lw_all) (hd : decode cc pc = .ok (.getfield idx, 3)) : z_SO own cc nL ini d G l C pc 3 (zo_gI 0 21) := so_gI 0 21 (T := zT0) rfl zI0 rfl (by decide) (by decide) rfl rfl h hd
theorem xg_1_1 {idx : Nat} (h : Cond.fieldLink own idx "QuotaPeers$Text" "size" "I" ∈ lw_all) (hd : decode cc pc = .ok (.getfield idx, 3)) : z_SO own cc nL ini d G l C pc 3 (zo_gI 1 1) := so_gI 1 1 (T := zT1) rfl zI1 rfl (by decide) (by decide) rfl rfl h hd
theorem xg_2_1 {idx : Nat} (h : Cond.fieldLink own idx "QuotaPeers$Page" "size" "I" ∈ lw_all) (hd : decode cc pc = .ok (.getfield idx, 3)) : z_SO own cc nL ini d G l C pc 3 (zo_gI 2 1) := so_gI 2 1 (T := zT2) rfl zI2 rfl (by decide) (by decide) rfl rfl h hd
theorem xg_3_2 {idx : Nat} (h : Cond.fieldLink own idx "QuotaPeers$Message" "size" "I" ∈ lw_all) (hd : decode cc pc = .ok (.getfield idx, 3)) : z_SO own cc nL ini d G l C pc 3 (zo_gI 3 2) := so_gI 3 2 (T := zT3) rfl zI3 rfl (by decide) (by decide) rfl rfl h hd
theorem xg_3_3 {idx : Nat} (h : Cond.fieldLink own idx "QuotaPeers$Message" "flags" "I" ∈ lw_all) (hd : decode cc pc = .ok (.getfield idx, 3)) : z_SO own cc nL ini d G l C pc 3 (zo_gI 3 3) := so_gI 3 3 (T := zT3) rfl zI3 rfl (by decide) (by decide) rfl rfl h hd
theorem xg_3_4 {idx : Nat} (h : Cond.fieldLink own idx "QuotaPeers$Message" "command" "I" ∈ lw_all) (hd : decode cc pc = .ok (.getfield idx, 3)) : z_SO own cc nL ini d G l C pc 3 (zo_gI 3 4) := so_gI 3 4 (T := zT3) rfl zI3 rfl (by decide) (by decide) rfl rfl h hd
theorem xg_3_5 {idx : Nat} (h : Cond.fieldLink own idx "QuotaPeers$Message" "application" "I" ∈ lw_all) (hd : decode cc pc = .ok (.getfield idx, 3)) : z_SO own cc nL ini d G l C pc 3 (zo_gI 3 5) := so_gI 3 5 (T := zT3) rfl zI3 rfl (by decide) (by decide) rfl rfl h hd
theorem xg_3_11 {idx : Nat} (h : Cond.fieldLink own idx "QuotaPeers$Message" "count" "I" ∈ lw_all) (hd : decode cc pc = .ok (.getfield idx, 3)) : z_SO own cc nL ini d G l C pc 3 (zo_gI 3 11) := so_gI 3 11 (T := zT3) rfl zI3 rfl (by decide) (by decide) rfl rfl h hd
theorem xg_3_12 {idx : Nat} (h : Cond.fieldLink own idx "QuotaPeers$Message" "wrong" "I" ∈ lw_all) (hd : decode cc pc = .ok (.getfield idx, 3)) : z_SO own cc nL ini d G l C pc 3 (zo_gI 3 12) := so_gI 3 12 (T := zT3) rfl zI3 rfl (by decide) (by decide) rfl rfl h hd
theorem xg_4_1 {idx : Nat} (h : Cond.fieldLink own idx "QuotaPeers$Link" "state" "I" ∈ lw_all) (hd : decode cc pc = .ok (.getfield idx, 3)) : z_SO own cc nL ini d G l C pc 3 (zo_gI 4 1) := so_gI 4 1 (T := zT4) rfl zI4 rfl (by decide) (by decide) rfl rfl h hd
theorem xg_4_7 {idx : Nat} (h : Cond.fieldLink own idx "QuotaPeers$Link" "first" "I" ∈ lw_all) (hd : decode cc pc = .ok (.getfield idx, 3)) : z_SO own cc nL ini d G l C pc 3 (zo_gI 4 7) := so_gI 4 7 (T := zT4) rfl zI4 rfl (by decide) (by decide) rfl rfl h hd
theorem xg_4_8 {idx : Nat} (h : Cond.fieldLink own idx "QuotaPeers$Link" "waiting" "I" ∈ lw_all) (hd : decode cc pc = .ok (.getfield idx, 3)) : z_SO own cc nL ini d G l C pc 3 (zo_gI 4 8) := so_gI 4 8 (T := zT4) rfl zI4 rfl (by decide) (by decide) rfl rfl h hd
theorem xg_8_1 {idx : Nat} (h : Cond.fieldLink own idx "QuotaPeersModel" "now" "I" ∈ lw_all) (hd : decode cc pc = .ok (.getfield idx, 3)) : z_SO own cc nL ini d G l C pc 3 (zo_gI 8 1) := so_gI 8 1 (T := zT8) rfl zI8 rfl (by decide) (by decide) rfl rfl h hd
theorem xg_8_2 {idx : Nat} (h : Cond.fieldLink own idx "QuotaPeersModel" "lost" "I" ∈ lw_all) (hd : decode cc pc = .ok (.getfield idx, 3)) : z_SO own cc nL ini d G l C pc 3 (zo_gI 8 2) := so_gI 8 2 (T := zT8) rfl zI8 rfl (by decide) (by decide) rfl rfl h hd
theorem xg_8_4 {idx : Nat} (h : Cond.fieldLink own idx "QuotaPeersModel" "signs" "I" ∈ lw_all) (hd : decode cc pc = .ok (.getfield idx, 3)) : z_SO own cc nL ini d G l C pc 3 (zo_gI 8 4) := so_gI 8 4 (T := zT8) rfl zI8 rfl (by decide) (by decide) rfl rfl h hd
theorem xg_8_6 {idx : Nat} (h : Cond.fieldLink own idx "QuotaPeersModel" "hostSize" "I" ∈ lw_all) (hd : decode cc pc = .ok (.getfield idx, 3)) : z_SO own cc nL ini d G l C pc 3 (zo_gI 8 6) := so_gI 8 6 (T := zT8) rfl zI8 rfl (by decide) (by decide) rfl rfl h hd
theorem xg_8_7 {idx : Nat} (h : Cond.fieldLink own idx "QuotaPeersModel" "peers" "I" ∈ lw_all) (hd : decode cc pc = .ok (.getfield idx, 3)) : z_SO own cc nL ini d G l C pc 3 (zo_gI 8 7) := so_gI 8 7 (T := zT8) rfl zI8 rfl (by decide) (by decide) rfl rfl h hd
theorem xg_8_34 {idx : Nat} (h : Cond.fieldLink own idx "QuotaPeersModel" "hop" "I" ∈ lw_all) (hd : decode cc pc = .ok (.getfield idx, 3)) : z_SO own cc nL ini d G l C pc 3 (zo_gI 8 34) := so_gI 8 34 (T := zT8) rfl zI8 rfl (by decide) (by decide) rfl rfl h hd
theorem xg_8_35 {idx : Nat} (h : Cond.fieldLink own idx "QuotaPeersModel" "accounts" "I" ∈ lw_all) (hd : decode cc pc = .ok (.getfield idx, 3)) : z_SO own cc nL ini d G l C pc 3 (zo_gI 8 35) := so_gI 8 35 (T := zT8) rfl zI8 rfl (by decide) (by decide) rfl rfl h hd
theorem xg_8_40 {idx : Nat} (h : Cond.fieldLink own idx "QuotaPeersModel" "many" "I" ∈ lw_all) (hd : decode cc pc = .ok (.getfield idx, 3)) : z_SO own cc nL ini d G l C pc 3 (zo_gI 8 40) := so_gI 8 40 (T := zT8) rfl zI8 rfl (by decide) (by decide) rfl rfl h hd
theorem xg_8_49 {idx : Nat} (h : Cond.fieldLink own idx "QuotaPeersModel" "asks" "I" ∈ lw_all) (hd : decode cc pc = .ok (.getfield idx, 3)) : z_SO own cc nL ini d G l C pc 3 (zo_gI 8 49) := so_gI 8 49 (T := zT8) rfl zI8 rfl (by decide) (by decide) rfl rfl h hd
theorem xg_8_59 {idx : Nat} (h : Cond.fieldLink own idx "QuotaPeersModel" "keptMany" "I" ∈ lw_all) (hd : decode cc pc = .ok (.getfield idx, 3)) : z_SO own cc nL ini d G l C pc 3 (zo_gI 8 59) := so_gI 8 59 (T := zT8) rfl zI8 rfl (by decide) (by decide) rfl rfl h hd
theorem xg_8_66 {idx : Nat} (h : Cond.fieldLink own idx "QuotaPeersModel" "size" "I" ∈ lw_all) (hd : decode cc pc = .ok (.getfield idx, 3)) : z_SO own cc nL ini d G l C pc 3 (zo_gI 8 66) := so_gI 8 66 (T := zT8) rfl zI8 rfl (by decide) (by decide) rfl rfl h hd
theorem xg_8_67 {idx : Nat} (h : Cond.fieldLink own idx "QuotaPeersModel" "base" "I" ∈ lw_all) (hd : decode cc pc = .ok (.getfield idx, 3)) : z_SO own cc nL ini d G l C pc 3 (zo_gI 8 67) := so_gI 8 67 (T := zT8) rfl zI8 rfl (by decide) (by decide) rfl rfl h hd
theorem xg_8_68 {idx : Nat} (h : Cond.fieldLink own idx "QuotaPeersModel" "length" "I" ∈ lw_all) (hd : decode cc pc = .ok (.getfield idx, 3)) : z_SO own cc nL ini d G l C pc 3 (zo_gI 8 68) := so_gI 8 68 (T := zT8) rfl zI8 rfl (by decide) (by decide) rfl rfl h hd
theorem xg_8_69 {idx : Nat} (h : Cond.fieldLink own idx "QuotaPeersModel" "flags" "I" ∈ lw_all) (hd : decode cc pc = .ok (.getfield idx, 3)) : z_SO own cc nL ini d G l C pc 3 (zo_gI 8 69) := so_gI 8 69 (T := zT8) rfl zI8 rfl (by decide) (by decide) rfl rfl h hd
theorem xg_8_70 {idx : Nat} (h : Cond.fieldLink own idx "QuotaPeersModel" "command" "I" ∈ lw_all) (hd : decode cc pc = .ok (.getfield idx, 3)) : z_SO own cc nL ini d G l C pc 3 (zo_gI 8 70) := so_gI 8 70 (T := zT8) rfl zI8 rfl (by decide) (by decide) rfl rfl h hd
theorem xg_8_71 {idx : Nat} (h : Cond.fieldLink own idx "QuotaPeersModel" "application" "I" ∈ lw_all) (hd : decode cc pc = .ok (.getfield idx, 3)) : z_SO own cc nL ini d G l C pc 3 (zo_gI 8 71) := so_gI 8 71 (T := zT8) rfl zI8 rfl (by decide) (by decide) rfl rfl h hd
theorem xg_8_72 {idx : Nat} (h : Cond.fieldLink own idx "QuotaPeersModel" "theirHop" "I" ∈ lw_all) (hd : decode cc pc = .ok (.getfield idx, 3)) : z_SO own cc nL ini d G l C pc 3 (zo_gI 8 72) := so_gI 8 72 (T := zT8) rfl zI8 rfl (by decide) (by decide) rfl rfl h hd
theorem xg_8_73 {idx : Nat} (h : Cond.fieldLink own idx "QuotaPeersModel" "theirEnd" "I" ∈ lw_all) (hd : decode cc pc = .ok (.getfield idx, 3)) : z_SO own cc nL ini d G l C pc 3 (zo_gI 8 73) := so_gI 8 73 (T := zT8) rfl zI8 rfl (by decide) (by decide) rfl rfl h hd
theorem xg_8_74 {idx : Nat} (h : Cond.fieldLink own idx "QuotaPeersModel" "wrong" "I" ∈ lw_all) (hd : decode cc pc = .ok (.getfield idx, 3)) : z_SO own cc nL ini d G l C pc 3 (zo_gI 8 74) := so_gI 8 74 (T := zT8) rfl zI8 rfl (by decide) (by decide) rfl rfl h hd
theorem xg_8_75 {idx : Nat} (h : Cond.fieldLink own idx "QuotaPeersModel" "wrongCode" "I" ∈ lw_all) (hd : decode cc pc = .ok (.getfield idx, 3)) : z_SO own cc nL ini d G l C pc 3 (zo_gI 8 75) := so_gI 8 75 (T := zT8) rfl zI8 rfl (by decide) (by decide) rfl rfl h hd
theorem xg_8_80 {idx : Nat} (h : Cond.fieldLink own idx "QuotaPeersModel" "goodAuth" "Z" ∈ lw_all) (hd : decode cc pc = .ok (.getfield idx, 3)) : z_SO own cc nL ini d G l C pc 3 (zo_gI 8 80) := so_gI 8 80 (T := zT8) rfl zI8 rfl (by decide) (by decide) rfl rfl h hd
theorem xg_8_81 {idx : Nat} (h : Cond.fieldLink own idx "QuotaPeersModel" "whoAt" "I" ∈ lw_all) (hd : decode cc pc = .ok (.getfield idx, 3)) : z_SO own cc nL ini d G l C pc 3 (zo_gI 8 81) := so_gI 8 81 (T := zT8) rfl zI8 rfl (by decide) (by decide) rfl rfl h hd
theorem xg_8_82 {idx : Nat} (h : Cond.fieldLink own idx "QuotaPeersModel" "whoSize" "I" ∈ lw_all) (hd : decode cc pc = .ok (.getfield idx, 3)) : z_SO own cc nL ini d G l C pc 3 (zo_gI 8 82) := so_gI 8 82 (T := zT8) rfl zI8 rfl (by decide) (by decide) rfl rfl h hd
theorem xg_8_83 {idx : Nat} (h : Cond.fieldLink own idx "QuotaPeersModel" "wantedAt" "I" ∈ lw_all) (hd : decode cc pc = .ok (.getfield idx, 3)) : z_SO own cc nL ini d G l C pc 3 (zo_gI 8 83) := so_gI 8 83 (T := zT8) rfl zI8 rfl (by decide) (by decide) rfl rfl h hd
theorem xg_8_84 {idx : Nat} (h : Cond.fieldLink own idx "QuotaPeersModel" "usedAt" "I" ∈ lw_all) (hd : decode cc pc = .ok (.getfield idx, 3)) : z_SO own cc nL ini d G l C pc 3 (zo_gI 8 84) := so_gI 8 84 (T := zT8) rfl zI8 rfl (by decide) (by decide) rfl rfl h hd
theorem xg_8_88 {idx : Nat} (h : Cond.fieldLink own idx "QuotaPeersModel" "result" "I" ∈ lw_all) (hd : decode cc pc = .ok (.getfield idx, 3)) : z_SO own cc nL ini d G l C pc 3 (zo_gI 8 88) := so_gI 8 88 (T := zT8) rfl zI8 rfl (by decide) (by decide) rfl rfl h hd
theorem xg_8_89 {idx : Nat} (h : Cond.fieldLink own idx "QuotaPeersModel" "tells" "Z" ∈ lw_all) (hd : decode cc pc = .ok (.getfield idx, 3)) : z_SO own cc nL ini d G l C pc 3 (zo_gI 8 89) := so_gI 8 89 (T := zT8) rfl zI8 rfl (by decide) (by decide) rfl rfl h hd
theorem xg_8_91 {idx : Nat} (h : Cond.fieldLink own idx "QuotaPeersModel" "enough" "I" ∈ lw_all) (hd : decode cc pc = .ok (.getfield idx, 3)) : z_SO own cc nL ini d G l C pc 3 (zo_gI 8 91) := so_gI 8 91 (T := zT8) rfl zI8 rfl (by decide) (by decide) rfl rfl h hd
theorem xg_9_3 {idx : Nat} (h : Cond.fieldLink own idx "QuotaPeers$Peer" "state" "I" ∈ lw_all) (hd : decode cc pc = .ok (.getfield idx, 3)) : z_SO own cc nL ini d G l C pc 3 (zo_gI 9 3) := so_gI 9 3 (T := zT9) rfl zI9 rfl (by decide) (by decide) rfl rfl h hd
theorem xg_9_10 {idx : Nat} (h : Cond.fieldLink own idx "QuotaPeers$Peer" "status" "I" ∈ lw_all) (hd : decode cc pc = .ok (.getfield idx, 3)) : z_SO own cc nL ini d G l C pc 3 (zo_gI 9 10) := so_gI 9 10 (T := zT9) rfl zI9 rfl (by decide) (by decide) rfl rfl h hd
theorem xgN_1_1 {idx : Nat} {host : String} (h : Cond.fieldLinkNest own idx "QuotaPeers$Text" "size" "I" host ∈ lw_tbl) (hd : decode cc pc = .ok (.getfield idx, 3)) : z_SO own cc nL ini d G l C pc 3 (zo_gI 1 1) := so_gIN 1 1 (T := zT1) rfl zI1 rfl (by decide) (by decide) rfl rfl h hd
theorem xgN_2_1 {idx : Nat} {host : String} (h : Cond.fieldLinkNest own idx "QuotaPeers$Page" "size" "I" host ∈ lw_tbl) (hd : decode cc pc = .ok (.getfield idx, 3)) : z_SO own cc nL ini d G l C pc 3 (zo_gI 2 1) := so_gIN 2 1 (T := zT2) rfl zI2 rfl (by decide) (by decide) rfl rfl h hd
theorem xgN_3_3 {idx : Nat} {host : String} (h : Cond.fieldLinkNest own idx "QuotaPeers$Message" "flags" "I" host ∈ lw_tbl) (hd : decode cc pc = .ok (.getfield idx, 3)) : z_SO own cc nL ini d G l C pc 3 (zo_gI 3 3) := so_gIN 3 3 (T := zT3) rfl zI3 rfl (by decide) (by decide) rfl rfl h hd
theorem xgN_3_4 {idx : Nat} {host : String} (h : Cond.fieldLinkNest own idx "QuotaPeers$Message" "command" "I" host ∈ lw_tbl) (hd : decode cc pc = .ok (.getfield idx, 3)) : z_SO own cc nL ini d G l C pc 3 (zo_gI 3 4) := so_gIN 3 4 (T := zT3) rfl zI3 rfl (by decide) (by decide) rfl rfl h hd
theorem xgN_3_5 {idx : Nat} {host : String} (h : Cond.fieldLinkNest own idx "QuotaPeers$Message" "application" "I" host ∈ lw_tbl) (hd : decode cc pc = .ok (.getfield idx, 3)) : z_SO own cc nL ini d G l C pc 3 (zo_gI 3 5) := so_gIN 3 5 (T := zT3) rfl zI3 rfl (by decide) (by decide) rfl rfl h hd
theorem xgN_3_6 {idx : Nat} {host : String} (h : Cond.fieldLinkNest own idx "QuotaPeers$Message" "hop" "I" host ∈ lw_tbl) (hd : decode cc pc = .ok (.getfield idx, 3)) : z_SO own cc nL ini d G l C pc 3 (zo_gI 3 6) := so_gIN 3 6 (T := zT3) rfl zI3 rfl (by decide) (by decide) rfl rfl h hd
theorem xgN_3_7 {idx : Nat} {host : String} (h : Cond.fieldLinkNest own idx "QuotaPeers$Message" "end" "I" host ∈ lw_tbl) (hd : decode cc pc = .ok (.getfield idx, 3)) : z_SO own cc nL ini d G l C pc 3 (zo_gI 3 7) := so_gIN 3 7 (T := zT3) rfl zI3 rfl (by decide) (by decide) rfl rfl h hd
theorem xgN_3_11 {idx : Nat} {host : String} (h : Cond.fieldLinkNest own idx "QuotaPeers$Message" "count" "I" host ∈ lw_tbl) (hd : decode cc pc = .ok (.getfield idx, 3)) : z_SO own cc nL ini d G l C pc 3 (zo_gI 3 11) := so_gIN 3 11 (T := zT3) rfl zI3 rfl (by decide) (by decide) rfl rfl h hd
theorem xgN_3_12 {idx : Nat} {host : String} (h : Cond.fieldLinkNest own idx "QuotaPeers$Message" "wrong" "I" host ∈ lw_tbl) (hd : decode cc pc = .ok (.getfield idx, 3)) : z_SO own cc nL ini d G l C pc 3 (zo_gI 3 12) := so_gIN 3 12 (T := zT3) rfl zI3 rfl (by decide) (by decide) rfl rfl h hd
theorem xgN_3_13 {idx : Nat} {host : String} (h : Cond.fieldLinkNest own idx "QuotaPeers$Message" "wrongCode" "I" host ∈ lw_tbl) (hd : decode cc pc = .ok (.getfield idx, 3)) : z_SO own cc nL ini d G l C pc 3 (zo_gI 3 13) := so_gIN 3 13 (T := zT3) rfl zI3 rfl (by decide) (by decide) rfl rfl h hd
theorem xgN_3_14 {idx : Nat} {host : String} (h : Cond.fieldLinkNest own idx "QuotaPeers$Message" "foundSize" "I" host ∈ lw_tbl) (hd : decode cc pc = .ok (.getfield idx, 3)) : z_SO own cc nL ini d G l C pc 3 (zo_gI 3 14) := so_gIN 3 14 (T := zT3) rfl zI3 rfl (by decide) (by decide) rfl rfl h hd
theorem xgN_4_0 {idx : Nat} {host : String} (h : Cond.fieldLinkNest own idx "QuotaPeers$Link" "number" "I" host ∈ lw_tbl) (hd : decode cc pc = .ok (.getfield idx, 3)) : z_SO own cc nL ini d G l C pc 3 (zo_gI 4 0) := so_gIN 4 0 (T := zT4) rfl zI4 rfl (by decide) (by decide) rfl rfl h hd
theorem xgN_4_1 {idx : Nat} {host : String} (h : Cond.fieldLinkNest own idx "QuotaPeers$Link" "state" "I" host ∈ lw_tbl) (hd : decode cc pc = .ok (.getfield idx, 3)) : z_SO own cc nL ini d G l C pc 3 (zo_gI 4 1) := so_gIN 4 1 (T := zT4) rfl zI4 rfl (by decide) (by decide) rfl rfl h hd
theorem xgN_4_3 {idx : Nat} {host : String} (h : Cond.fieldLinkNest own idx "QuotaPeers$Link" "own" "Z" host ∈ lw_tbl) (hd : decode cc pc = .ok (.getfield idx, 3)) : z_SO own cc nL ini d G l C pc 3 (zo_gI 4 3) := so_gIN 4 3 (T := zT4) rfl zI4 rfl (by decide) (by decide) rfl rfl h hd
theorem xgN_4_5 {idx : Nat} {host : String} (h : Cond.fieldLinkNest own idx "QuotaPeers$Link" "came" "I" host ∈ lw_tbl) (hd : decode cc pc = .ok (.getfield idx, 3)) : z_SO own cc nL ini d G l C pc 3 (zo_gI 4 5) := so_gIN 4 5 (T := zT4) rfl zI4 rfl (by decide) (by decide) rfl rfl h hd
theorem xgN_4_8 {idx : Nat} {host : String} (h : Cond.fieldLinkNest own idx "QuotaPeers$Link" "waiting" "I" host ∈ lw_tbl) (hd : decode cc pc = .ok (.getfield idx, 3)) : z_SO own cc nL ini d G l C pc 3 (zo_gI 4 8) := so_gIN 4 8 (T := zT4) rfl zI4 rfl (by decide) (by decide) rfl rfl h hd
theorem xgN_5_6 {idx : Nat} {host : String} (h : Cond.fieldLinkNest own idx "QuotaPeers$Session" "peer" "I" host ∈ lw_tbl) (hd : decode cc pc = .ok (.getfield idx, 3)) : z_SO own cc nL ini d G l C pc 3 (zo_gI 5 6) := so_gIN 5 6 (T := zT5) rfl zI5 rfl (by decide) (by decide) rfl rfl h hd
theorem xgN_5_7 {idx : Nat} {host : String} (h : Cond.fieldLinkNest own idx "QuotaPeers$Session" "ends" "I" host ∈ lw_tbl) (hd : decode cc pc = .ok (.getfield idx, 3)) : z_SO own cc nL ini d G l C pc 3 (zo_gI 5 7) := so_gIN 5 7 (T := zT5) rfl zI5 rfl (by decide) (by decide) rfl rfl h hd
theorem xgN_6_5 {idx : Nat} {host : String} (h : Cond.fieldLinkNest own idx "QuotaPeers$Question" "sent" "I" host ∈ lw_tbl) (hd : decode cc pc = .ok (.getfield idx, 3)) : z_SO own cc nL ini d G l C pc 3 (zo_gI 6 5) := so_gIN 6 5 (T := zT6) rfl zI6 rfl (by decide) (by decide) rfl rfl h hd
theorem xgN_6_6 {idx : Nat} {host : String} (h : Cond.fieldLinkNest own idx "QuotaPeers$Question" "hop" "I" host ∈ lw_tbl) (hd : decode cc pc = .ok (.getfield idx, 3)) : z_SO own cc nL ini d G l C pc 3 (zo_gI 6 6) := so_gIN 6 6 (T := zT6) rfl zI6 rfl (by decide) (by decide) rfl rfl h hd
theorem xgN_6_7 {idx : Nat} {host : String} (h : Cond.fieldLinkNest own idx "QuotaPeers$Question" "end" "I" host ∈ lw_tbl) (hd : decode cc pc = .ok (.getfield idx, 3)) : z_SO own cc nL ini d G l C pc 3 (zo_gI 6 7) := so_gIN 6 7 (T := zT6) rfl zI6 rfl (by decide) (by decide) rfl rfl h hd
theorem xgN_7_1 {idx : Nat} {host : String} (h : Cond.fieldLinkNest own idx "QuotaPeers$Answer" "end" "I" host ∈ lw_tbl) (hd : decode cc pc = .ok (.getfield idx, 3)) : z_SO own cc nL ini d G l C pc 3 (zo_gI 7 1) := so_gIN 7 1 (T := zT7) rfl zI7 rfl (by decide) (by decide) rfl rfl h hd
theorem xgN_7_2 {idx : Nat} {host : String} (h : Cond.fieldLinkNest own idx "QuotaPeers$Answer" "time" "I" host ∈ lw_tbl) (hd : decode cc pc = .ok (.getfield idx, 3)) : z_SO own cc nL ini d G l C pc 3 (zo_gI 7 2) := so_gIN 7 2 (T := zT7) rfl zI7 rfl (by decide) (by decide) rfl rfl h hd
theorem xgN_7_4 {idx : Nat} {host : String} (h : Cond.fieldLinkNest own idx "QuotaPeers$Answer" "size" "I" host ∈ lw_tbl) (hd : decode cc pc = .ok (.getfield idx, 3)) : z_SO own cc nL ini d G l C pc 3 (zo_gI 7 4) := so_gIN 7 4 (T := zT7) rfl zI7 rfl (by decide) (by decide) rfl rfl h hd
theorem xgN_9_0 {idx : Nat} {host : String} (h : Cond.fieldLinkNest own idx "QuotaPeers$Peer" "number" "I" host ∈ lw_tbl) (hd : decode cc pc = .ok (.getfield idx, 3)) : z_SO own cc nL ini d G l C pc 3 (zo_gI 9 0) := so_gIN 9 0 (T := zT9) rfl zI9 rfl (by decide) (by decide) rfl rfl h hd
theorem xgN_9_2 {idx : Nat} {host : String} (h : Cond.fieldLinkNest own idx "QuotaPeers$Peer" "starts" "Z" host ∈ lw_tbl) (hd : decode cc pc = .ok (.getfield idx, 3)) : z_SO own cc nL ini d G l C pc 3 (zo_gI 9 2) := so_gIN 9 2 (T := zT9) rfl zI9 rfl (by decide) (by decide) rfl rfl h hd
theorem xgN_9_3 {idx : Nat} {host : String} (h : Cond.fieldLinkNest own idx "QuotaPeers$Peer" "state" "I" host ∈ lw_tbl) (hd : decode cc pc = .ok (.getfield idx, 3)) : z_SO own cc nL ini d G l C pc 3 (zo_gI 9 3) := so_gIN 9 3 (T := zT9) rfl zI9 rfl (by decide) (by decide) rfl rfl h hd
theorem xgN_9_4 {idx : Nat} {host : String} (h : Cond.fieldLinkNest own idx "QuotaPeers$Peer" "limit" "I" host ∈ lw_tbl) (hd : decode cc pc = .ok (.getfield idx, 3)) : z_SO own cc nL ini d G l C pc 3 (zo_gI 9 4) := so_gIN 9 4 (T := zT9) rfl zI9 rfl (by decide) (by decide) rfl rfl h hd
theorem xgN_9_7 {idx : Nat} {host : String} (h : Cond.fieldLinkNest own idx "QuotaPeers$Peer" "cameFlags" "I" host ∈ lw_tbl) (hd : decode cc pc = .ok (.getfield idx, 3)) : z_SO own cc nL ini d G l C pc 3 (zo_gI 9 7) := so_gIN 9 7 (T := zT9) rfl zI9 rfl (by decide) (by decide) rfl rfl h hd
theorem xgN_9_8 {idx : Nat} {host : String} (h : Cond.fieldLinkNest own idx "QuotaPeers$Peer" "cameHop" "I" host ∈ lw_tbl) (hd : decode cc pc = .ok (.getfield idx, 3)) : z_SO own cc nL ini d G l C pc 3 (zo_gI 9 8) := so_gIN 9 8 (T := zT9) rfl zI9 rfl (by decide) (by decide) rfl rfl h hd
theorem xgN_9_9 {idx : Nat} {host : String} (h : Cond.fieldLinkNest own idx "QuotaPeers$Peer" "cameEnd" "I" host ∈ lw_tbl) (hd : decode cc pc = .ok (.getfield idx, 3)) : z_SO own cc nL ini d G l C pc 3 (zo_gI 9 9) := so_gIN 9 9 (T := zT9) rfl zI9 rfl (by decide) (by decide) rfl rfl h hd
theorem xgN_9_10 {idx : Nat} {host : String} (h : Cond.fieldLinkNest own idx "QuotaPeers$Peer" "status" "I" host ∈ lw_tbl) (hd : decode cc pc = .ok (.getfield idx, 3)) : z_SO own cc nL ini d G l C pc 3 (zo_gI 9 10) := so_gIN 9 10 (T := zT9) rfl zI9 rfl (by decide) (by decide) rfl rfl h hd
theorem xgN_9_11 {idx : Nat} {host : String} (h : Cond.fieldLinkNest own idx "QuotaPeers$Peer" "awaited" "Z" host ∈ lw_tbl) (hd : decode cc pc = .ok (.getfield idx, 3)) : z_SO own cc nL ini d G l C pc 3 (zo_gI 9 11) := so_gIN 9 11 (T := zT9) rfl zI9 rfl (by decide) (by decide) rfl rfl h hd
theorem xgN_9_12 {idx : Nat} {host : String} (h : Cond.fieldLinkNest own idx "QuotaPeers$Peer" "due" "I" host ∈ lw_tbl) (hd : decode cc pc = .ok (.getfield idx, 3)) : z_SO own cc nL ini d G l C pc 3 (zo_gI 9 12) := so_gIN 9 12 (T := zT9) rfl zI9 rfl (by decide) (by decide) rfl rfl h hd
theorem xgN_9_13 {idx : Nat} {host : String} (h : Cond.fieldLinkNest own idx "QuotaPeers$Peer" "overs" "I" host ∈ lw_tbl) (hd : decode cc pc = .ok (.getfield idx, 3)) : z_SO own cc nL ini d G l C pc 3 (zo_gI 9 13) := so_gIN 9 13 (T := zT9) rfl zI9 rfl (by decide) (by decide) rfl rfl h hd
theorem xgN_9_14 {idx : Nat} {host : String} (h : Cond.fieldLinkNest own idx "QuotaPeers$Peer" "answers" "I" host ∈ lw_tbl) (hd : decode cc pc = .ok (.getfield idx, 3)) : z_SO own cc nL ini d G l C pc 3 (zo_gI 9 14) := so_gIN 9 14 (T := zT9) rfl zI9 rfl (by decide) (by decide) rfl rfl h hd
theorem xgN_9_15 {idx : Nat} {host : String} (h : Cond.fieldLinkNest own idx "QuotaPeers$Peer" "openingHop" "I" host ∈ lw_tbl) (hd : decode cc pc = .ok (.getfield idx, 3)) : z_SO own cc nL ini d G l C pc 3 (zo_gI 9 15) := so_gIN 9 15 (T := zT9) rfl zI9 rfl (by decide) (by decide) rfl rfl h hd
theorem xgN_9_16 {idx : Nat} {host : String} (h : Cond.fieldLinkNest own idx "QuotaPeers$Peer" "watchHop" "I" host ∈ lw_tbl) (hd : decode cc pc = .ok (.getfield idx, 3)) : z_SO own cc nL ini d G l C pc 3 (zo_gI 9 16) := so_gIN 9 16 (T := zT9) rfl zI9 rfl (by decide) (by decide) rfl rfl h hd
theorem xgN_9_17 {idx : Nat} {host : String} (h : Cond.fieldLinkNest own idx "QuotaPeers$Peer" "endingHop" "I" host ∈ lw_tbl) (hd : decode cc pc = .ok (.getfield idx, 3)) : z_SO own cc nL ini d G l C pc 3 (zo_gI 9 17) := so_gIN 9 17 (T := zT9) rfl zI9 rfl (by decide) (by decide) rfl rfl h hd
theorem xg_5_4 {idx : Nat} (h : Cond.fieldLink own idx "QuotaPeers$Session" "grant" "J" ∈ lw_all) (hd : decode cc pc = .ok (.getfield idx, 3)) : z_SO own cc nL ini d G l C pc 3 (zo_gJ 5 4) := so_gJ 5 4 (T := zT5) rfl zI5 rfl (by decide) (by decide) rfl rfl h hd
theorem xg_8_90 {idx : Nat} (h : Cond.fieldLink own idx "QuotaPeersModel" "told" "J" ∈ lw_all) (hd : decode cc pc = .ok (.getfield idx, 3)) : z_SO own cc nL ini d G l C pc 3 (zo_gJ 8 90) := so_gJ 8 90 (T := zT8) rfl zI8 rfl (by decide) (by decide) rfl rfl h hd
theorem xg_10_1 {idx : Nat} (h : Cond.fieldLink own idx "QuotaPeers$Account" "balance" "J" ∈ lw_all) (hd : decode cc pc = .ok (.getfield idx, 3)) : z_SO own cc nL ini d G l C pc 3 (zo_gJ 10 1) := so_gJ 10 1 (T := zT10) rfl zI10 rfl (by decide) (by decide) rfl rfl h hd
theorem xg_10_2 {idx : Nat} (h : Cond.fieldLink own idx "QuotaPeers$Account" "reserved" "J" ∈ lw_all) (hd : decode cc pc = .ok (.getfield idx, 3)) : z_SO own cc nL ini d G l C pc 3 (zo_gJ 10 2) := so_gJ 10 2 (T := zT10) rfl zI10 rfl (by decide) (by decide) rfl rfl h hd
theorem xg_10_3 {idx : Nat} (h : Cond.fieldLink own idx "QuotaPeers$Account" "charged" "J" ∈ lw_all) (hd : decode cc pc = .ok (.getfield idx, 3)) : z_SO own cc nL ini d G l C pc 3 (zo_gJ 10 3) := so_gJ 10 3 (T := zT10) rfl zI10 rfl (by decide) (by decide) rfl rfl h hd
theorem xgN_5_4 {idx : Nat} {host : String} (h : Cond.fieldLinkNest own idx "QuotaPeers$Session" "grant" "J" host ∈ lw_tbl) (hd : decode cc pc = .ok (.getfield idx, 3)) : z_SO own cc nL ini d G l C pc 3 (zo_gJ 5 4) := so_gJN 5 4 (T := zT5) rfl zI5 rfl (by decide) (by decide) rfl rfl h hd
theorem xgN_5_5 {idx : Nat} {host : String} (h : Cond.fieldLinkNest own idx "QuotaPeers$Session" "count" "J" host ∈ lw_tbl) (hd : decode cc pc = .ok (.getfield idx, 3)) : z_SO own cc nL ini d G l C pc 3 (zo_gJ 5 5) := so_gJN 5 5 (T := zT5) rfl zI5 rfl (by decide) (by decide) rfl rfl h hd
theorem xgN_6_3 {idx : Nat} {host : String} (h : Cond.fieldLinkNest own idx "QuotaPeers$Question" "result" "J" host ∈ lw_tbl) (hd : decode cc pc = .ok (.getfield idx, 3)) : z_SO own cc nL ini d G l C pc 3 (zo_gJ 6 3) := so_gJN 6 3 (T := zT6) rfl zI6 rfl (by decide) (by decide) rfl rfl h hd
theorem xgN_10_0 {idx : Nat} {host : String} (h : Cond.fieldLinkNest own idx "QuotaPeers$Account" "number" "J" host ∈ lw_tbl) (hd : decode cc pc = .ok (.getfield idx, 3)) : z_SO own cc nL ini d G l C pc 3 (zo_gJ 10 0) := so_gJN 10 0 (T := zT10) rfl zI10 rfl (by decide) (by decide) rfl rfl h hd
theorem xgN_10_1 {idx : Nat} {host : String} (h : Cond.fieldLinkNest own idx "QuotaPeers$Account" "balance" "J" host ∈ lw_tbl) (hd : decode cc pc = .ok (.getfield idx, 3)) : z_SO own cc nL ini d G l C pc 3 (zo_gJ 10 1) := so_gJN 10 1 (T := zT10) rfl zI10 rfl (by decide) (by decide) rfl rfl h hd
theorem xgN_10_2 {idx : Nat} {host : String} (h : Cond.fieldLinkNest own idx "QuotaPeers$Account" "reserved" "J" host ∈ lw_tbl) (hd : decode cc pc = .ok (.getfield idx, 3)) : z_SO own cc nL ini d G l C pc 3 (zo_gJ 10 2) := so_gJN 10 2 (T := zT10) rfl zI10 rfl (by decide) (by decide) rfl rfl h hd
theorem xgN_10_3 {idx : Nat} {host : String} (h : Cond.fieldLinkNest own idx "QuotaPeers$Account" "charged" "J" host ∈ lw_tbl) (hd : decode cc pc = .ok (.getfield idx, 3)) : z_SO own cc nL ini d G l C pc 3 (zo_gJ 10 3) := so_gJN 10 3 (T := zT10) rfl zI10 rfl (by decide) (by decide) rfl rfl h hd
theorem xg_0_0 {idx : Nat} (h : Cond.fieldLink own idx "QuotaPeers" "at" "LQuotaPeers$Text;" ∈ lw_all) (hd : decode cc pc = .ok (.getfield idx, 3)) : z_SO own cc nL ini d G l C pc 3 (zo_gR 0 0) := so_gR 0 0 (T := zT0) rfl zI0 rfl (by decide) (by decide) rfl rfl h hd
theorem xg_0_1 {idx : Nat} (h : Cond.fieldLink own idx "QuotaPeers" "host" "LQuotaPeers$Text;" ∈ lw_all) (hd : decode cc pc = .ok (.getfield idx, 3)) : z_SO own cc nL ini d G l C pc 3 (zo_gR 0 1) := so_gR 0 1 (T := zT0) rfl zI0 rfl (by decide) (by decide) rfl rfl h hd
theorem xg_0_2 {idx : Nat} (h : Cond.fieldLink own idx "QuotaPeers" "realm" "LQuotaPeers$Text;" ∈ lw_all) (hd : decode cc pc = .ok (.getfield idx, 3)) : z_SO own cc nL ini d G l C pc 3 (zo_gR 0 2) := so_gR 0 2 (T := zT0) rfl zI0 rfl (by decide) (by decide) rfl rfl h hd
theorem xg_0_3 {idx : Nat} (h : Cond.fieldLink own idx "QuotaPeers" "product" "LQuotaPeers$Text;" ∈ lw_all) (hd : decode cc pc = .ok (.getfield idx, 3)) : z_SO own cc nL ini d G l C pc 3 (zo_gR 0 3) := so_gR 0 3 (T := zT0) rfl zI0 rfl (by decide) (by decide) rfl rfl h hd
theorem xg_0_4 {idx : Nat} (h : Cond.fieldLink own idx "QuotaPeers" "page" "LQuotaPeers$Page;" ∈ lw_all) (hd : decode cc pc = .ok (.getfield idx, 3)) : z_SO own cc nL ini d G l C pc 3 (zo_gR 0 4) := so_gR 0 4 (T := zT0) rfl zI0 rfl (by decide) (by decide) rfl rfl h hd
theorem xg_0_5 {idx : Nat} (h : Cond.fieldLink own idx "QuotaPeers" "message" "LQuotaPeers$Message;" ∈ lw_all) (hd : decode cc pc = .ok (.getfield idx, 3)) : z_SO own cc nL ini d G l C pc 3 (zo_gR 0 5) := so_gR 0 5 (T := zT0) rfl zI0 rfl (by decide) (by decide) rfl rfl h hd
theorem xg_0_6 {idx : Nat} (h : Cond.fieldLink own idx "QuotaPeers" "links" "[LQuotaPeers$Link;" ∈ lw_all) (hd : decode cc pc = .ok (.getfield idx, 3)) : z_SO own cc nL ini d G l C pc 3 (zo_gR 0 6) := so_gR 0 6 (T := zT0) rfl zI0 rfl (by decide) (by decide) rfl rfl h hd
theorem xg_0_7 {idx : Nat} (h : Cond.fieldLink own idx "QuotaPeers" "peers" "[LQuotaPeers$Peer;" ∈ lw_all) (hd : decode cc pc = .ok (.getfield idx, 3)) : z_SO own cc nL ini d G l C pc 3 (zo_gR 0 7) := so_gR 0 7 (T := zT0) rfl zI0 rfl (by decide) (by decide) rfl rfl h hd
theorem xg_0_9 {idx : Nat} (h : Cond.fieldLink own idx "QuotaPeers" "accounts" "[LQuotaPeers$Account;" ∈ lw_all) (hd : decode cc pc = .ok (.getfield idx, 3)) : z_SO own cc nL ini d G l C pc 3 (zo_gR 0 9) := so_gR 0 9 (T := zT0) rfl zI0 rfl (by decide) (by decide) rfl rfl h hd
theorem xg_0_11 {idx : Nat} (h : Cond.fieldLink own idx "QuotaPeers" "sessions" "[LQuotaPeers$Session;" ∈ lw_all) (hd : decode cc pc = .ok (.getfield idx, 3)) : z_SO own cc nL ini d G l C pc 3 (zo_gR 0 11) := so_gR 0 11 (T := zT0) rfl zI0 rfl (by decide) (by decide) rfl rfl h hd
theorem xg_0_13 {idx : Nat} (h : Cond.fieldLink own idx "QuotaPeers" "asks" "[LQuotaPeers$Question;" ∈ lw_all) (hd : decode cc pc = .ok (.getfield idx, 3)) : z_SO own cc nL ini d G l C pc 3 (zo_gR 0 13) := so_gR 0 13 (T := zT0) rfl zI0 rfl (by decide) (by decide) rfl rfl h hd
theorem xg_0_15 {idx : Nat} (h : Cond.fieldLink own idx "QuotaPeers" "keeps" "[LQuotaPeers$Answer;" ∈ lw_all) (hd : decode cc pc = .ok (.getfield idx, 3)) : z_SO own cc nL ini d G l C pc 3 (zo_gR 0 15) := so_gR 0 15 (T := zT0) rfl zI0 rfl (by decide) (by decide) rfl rfl h hd
theorem xg_0_20 {idx : Nat} (h : Cond.fieldLink own idx "QuotaPeers" "granted" "LQuotaPeers$Session;" ∈ lw_all) (hd : decode cc pc = .ok (.getfield idx, 3)) : z_SO own cc nL ini d G l C pc 3 (zo_gR 0 20) := so_gR 0 20 (T := zT0) rfl zI0 rfl (by decide) (by decide) rfl rfl h hd
theorem xg_1_0 {idx : Nat} (h : Cond.fieldLink own idx "QuotaPeers$Text" "cells" "[B" ∈ lw_all) (hd : decode cc pc = .ok (.getfield idx, 3)) : z_SO own cc nL ini d G l C pc 3 (zo_gR 1 0) := so_gR 1 0 (T := zT1) rfl zI1 rfl (by decide) (by decide) rfl rfl h hd
theorem xg_2_0 {idx : Nat} (h : Cond.fieldLink own idx "QuotaPeers$Page" "cells" "[B" ∈ lw_all) (hd : decode cc pc = .ok (.getfield idx, 3)) : z_SO own cc nL ini d G l C pc 3 (zo_gR 2 0) := so_gR 2 0 (T := zT2) rfl zI2 rfl (by decide) (by decide) rfl rfl h hd
theorem xg_3_0 {idx : Nat} (h : Cond.fieldLink own idx "QuotaPeers$Message" "commands" "[LQuotaPeers$Command;" ∈ lw_all) (hd : decode cc pc = .ok (.getfield idx, 3)) : z_SO own cc nL ini d G l C pc 3 (zo_gR 3 0) := so_gR 3 0 (T := zT3) rfl zI3 rfl (by decide) (by decide) rfl rfl h hd
theorem xg_3_1 {idx : Nat} (h : Cond.fieldLink own idx "QuotaPeers$Message" "cells" "[B" ∈ lw_all) (hd : decode cc pc = .ok (.getfield idx, 3)) : z_SO own cc nL ini d G l C pc 3 (zo_gR 3 1) := so_gR 3 1 (T := zT3) rfl zI3 rfl (by decide) (by decide) rfl rfl h hd
theorem xg_3_8 {idx : Nat} (h : Cond.fieldLink own idx "QuotaPeers$Message" "codes" "[I" ∈ lw_all) (hd : decode cc pc = .ok (.getfield idx, 3)) : z_SO own cc nL ini d G l C pc 3 (zo_gR 3 8) := so_gR 3 8 (T := zT3) rfl zI3 rfl (by decide) (by decide) rfl rfl h hd
theorem xg_3_9 {idx : Nat} (h : Cond.fieldLink own idx "QuotaPeers$Message" "froms" "[I" ∈ lw_all) (hd : decode cc pc = .ok (.getfield idx, 3)) : z_SO own cc nL ini d G l C pc 3 (zo_gR 3 9) := so_gR 3 9 (T := zT3) rfl zI3 rfl (by decide) (by decide) rfl rfl h hd
theorem xg_3_10 {idx : Nat} (h : Cond.fieldLink own idx "QuotaPeers$Message" "sizes" "[I" ∈ lw_all) (hd : decode cc pc = .ok (.getfield idx, 3)) : z_SO own cc nL ini d G l C pc 3 (zo_gR 3 10) := so_gR 3 10 (T := zT3) rfl zI3 rfl (by decide) (by decide) rfl rfl h hd
theorem xg_4_6 {idx : Nat} (h : Cond.fieldLink own idx "QuotaPeers$Link" "queue" "[B" ∈ lw_all) (hd : decode cc pc = .ok (.getfield idx, 3)) : z_SO own cc nL ini d G l C pc 3 (zo_gR 4 6) := so_gR 4 6 (T := zT4) rfl zI4 rfl (by decide) (by decide) rfl rfl h hd
theorem xg_5_3 {idx : Nat} (h : Cond.fieldLink own idx "QuotaPeers$Session" "account" "LQuotaPeers$Account;" ∈ lw_all) (hd : decode cc pc = .ok (.getfield idx, 3)) : z_SO own cc nL ini d G l C pc 3 (zo_gR 5 3) := so_gR 5 3 (T := zT5) rfl zI5 rfl (by decide) (by decide) rfl rfl h hd
theorem xg_8_3 {idx : Nat} (h : Cond.fieldLink own idx "QuotaPeersModel" "sign" "[B" ∈ lw_all) (hd : decode cc pc = .ok (.getfield idx, 3)) : z_SO own cc nL ini d G l C pc 3 (zo_gR 8 3) := so_gR 8 3 (T := zT8) rfl zI8 rfl (by decide) (by decide) rfl rfl h hd
theorem xg_8_5 {idx : Nat} (h : Cond.fieldLink own idx "QuotaPeersModel" "host" "[B" ∈ lw_all) (hd : decode cc pc = .ok (.getfield idx, 3)) : z_SO own cc nL ini d G l C pc 3 (zo_gR 8 5) := so_gR 8 5 (T := zT8) rfl zI8 rfl (by decide) (by decide) rfl rfl h hd
theorem xg_8_8 {idx : Nat} (h : Cond.fieldLink own idx "QuotaPeersModel" "peerName" "[B" ∈ lw_all) (hd : decode cc pc = .ok (.getfield idx, 3)) : z_SO own cc nL ini d G l C pc 3 (zo_gR 8 8) := so_gR 8 8 (T := zT8) rfl zI8 rfl (by decide) (by decide) rfl rfl h hd
theorem xg_8_9 {idx : Nat} (h : Cond.fieldLink own idx "QuotaPeersModel" "peerSize" "[I" ∈ lw_all) (hd : decode cc pc = .ok (.getfield idx, 3)) : z_SO own cc nL ini d G l C pc 3 (zo_gR 8 9) := so_gR 8 9 (T := zT8) rfl zI8 rfl (by decide) (by decide) rfl rfl h hd
theorem xg_8_10 {idx : Nat} (h : Cond.fieldLink own idx "QuotaPeersModel" "starts" "[Z" ∈ lw_all) (hd : decode cc pc = .ok (.getfield idx, 3)) : z_SO own cc nL ini d G l C pc 3 (zo_gR 8 10) := so_gR 8 10 (T := zT8) rfl zI8 rfl (by decide) (by decide) rfl rfl h hd
theorem xg_8_11 {idx : Nat} (h : Cond.fieldLink own idx "QuotaPeersModel" "state" "[I" ∈ lw_all) (hd : decode cc pc = .ok (.getfield idx, 3)) : z_SO own cc nL ini d G l C pc 3 (zo_gR 8 11) := so_gR 8 11 (T := zT8) rfl zI8 rfl (by decide) (by decide) rfl rfl h hd
theorem xg_8_12 {idx : Nat} (h : Cond.fieldLink own idx "QuotaPeersModel" "deadline" "[I" ∈ lw_all) (hd : decode cc pc = .ok (.getfield idx, 3)) : z_SO own cc nL ini d G l C pc 3 (zo_gR 8 12) := so_gR 8 12 (T := zT8) rfl zI8 rfl (by decide) (by decide) rfl rfl h hd
theorem xg_8_13 {idx : Nat} (h : Cond.fieldLink own idx "QuotaPeersModel" "own" "[I" ∈ lw_all) (hd : decode cc pc = .ok (.getfield idx, 3)) : z_SO own cc nL ini d G l C pc 3 (zo_gR 8 13) := so_gR 8 13 (T := zT8) rfl zI8 rfl (by decide) (by decide) rfl rfl h hd
theorem xg_8_14 {idx : Nat} (h : Cond.fieldLink own idx "QuotaPeersModel" "came" "[I" ∈ lw_all) (hd : decode cc pc = .ok (.getfield idx, 3)) : z_SO own cc nL ini d G l C pc 3 (zo_gR 8 14) := so_gR 8 14 (T := zT8) rfl zI8 rfl (by decide) (by decide) rfl rfl h hd
theorem xg_8_15 {idx : Nat} (h : Cond.fieldLink own idx "QuotaPeersModel" "status" "[I" ∈ lw_all) (hd : decode cc pc = .ok (.getfield idx, 3)) : z_SO own cc nL ini d G l C pc 3 (zo_gR 8 15) := so_gR 8 15 (T := zT8) rfl zI8 rfl (by decide) (by decide) rfl rfl h hd
theorem xg_8_16 {idx : Nat} (h : Cond.fieldLink own idx "QuotaPeersModel" "awaited" "[Z" ∈ lw_all) (hd : decode cc pc = .ok (.getfield idx, 3)) : z_SO own cc nL ini d G l C pc 3 (zo_gR 8 16) := so_gR 8 16 (T := zT8) rfl zI8 rfl (by decide) (by decide) rfl rfl h hd
theorem xg_8_17 {idx : Nat} (h : Cond.fieldLink own idx "QuotaPeersModel" "timer" "[I" ∈ lw_all) (hd : decode cc pc = .ok (.getfield idx, 3)) : z_SO own cc nL ini d G l C pc 3 (zo_gR 8 17) := so_gR 8 17 (T := zT8) rfl zI8 rfl (by decide) (by decide) rfl rfl h hd
theorem xg_8_18 {idx : Nat} (h : Cond.fieldLink own idx "QuotaPeersModel" "given" "[I" ∈ lw_all) (hd : decode cc pc = .ok (.getfield idx, 3)) : z_SO own cc nL ini d G l C pc 3 (zo_gR 8 18) := so_gR 8 18 (T := zT8) rfl zI8 rfl (by decide) (by decide) rfl rfl h hd
theorem xg_8_19 {idx : Nat} (h : Cond.fieldLink own idx "QuotaPeersModel" "back" "[I" ∈ lw_all) (hd : decode cc pc = .ok (.getfield idx, 3)) : z_SO own cc nL ini d G l C pc 3 (zo_gR 8 19) := so_gR 8 19 (T := zT8) rfl zI8 rfl (by decide) (by decide) rfl rfl h hd
theorem xg_8_20 {idx : Nat} (h : Cond.fieldLink own idx "QuotaPeersModel" "openHop" "[I" ∈ lw_all) (hd : decode cc pc = .ok (.getfield idx, 3)) : z_SO own cc nL ini d G l C pc 3 (zo_gR 8 20) := so_gR 8 20 (T := zT8) rfl zI8 rfl (by decide) (by decide) rfl rfl h hd
theorem xg_8_21 {idx : Nat} (h : Cond.fieldLink own idx "QuotaPeersModel" "watchHop" "[I" ∈ lw_all) (hd : decode cc pc = .ok (.getfield idx, 3)) : z_SO own cc nL ini d G l C pc 3 (zo_gR 8 21) := so_gR 8 21 (T := zT8) rfl zI8 rfl (by decide) (by decide) rfl rfl h hd
theorem xg_8_22 {idx : Nat} (h : Cond.fieldLink own idx "QuotaPeersModel" "endHop" "[I" ∈ lw_all) (hd : decode cc pc = .ok (.getfield idx, 3)) : z_SO own cc nL ini d G l C pc 3 (zo_gR 8 22) := so_gR 8 22 (T := zT8) rfl zI8 rfl (by decide) (by decide) rfl rfl h hd
theorem xg_8_23 {idx : Nat} (h : Cond.fieldLink own idx "QuotaPeersModel" "cameFlags" "[I" ∈ lw_all) (hd : decode cc pc = .ok (.getfield idx, 3)) : z_SO own cc nL ini d G l C pc 3 (zo_gR 8 23) := so_gR 8 23 (T := zT8) rfl zI8 rfl (by decide) (by decide) rfl rfl h hd
theorem xg_8_24 {idx : Nat} (h : Cond.fieldLink own idx "QuotaPeersModel" "cameHop" "[I" ∈ lw_all) (hd : decode cc pc = .ok (.getfield idx, 3)) : z_SO own cc nL ini d G l C pc 3 (zo_gR 8 24) := so_gR 8 24 (T := zT8) rfl zI8 rfl (by decide) (by decide) rfl rfl h hd
theorem xg_8_25 {idx : Nat} (h : Cond.fieldLink own idx "QuotaPeersModel" "cameEnd" "[I" ∈ lw_all) (hd : decode cc pc = .ok (.getfield idx, 3)) : z_SO own cc nL ini d G l C pc 3 (zo_gR 8 25) := so_gR 8 25 (T := zT8) rfl zI8 rfl (by decide) (by decide) rfl rfl h hd
theorem xg_8_26 {idx : Nat} (h : Cond.fieldLink own idx "QuotaPeersModel" "cState" "[I" ∈ lw_all) (hd : decode cc pc = .ok (.getfield idx, 3)) : z_SO own cc nL ini d G l C pc 3 (zo_gR 8 26) := so_gR 8 26 (T := zT8) rfl zI8 rfl (by decide) (by decide) rfl rfl h hd
theorem xg_8_27 {idx : Nat} (h : Cond.fieldLink own idx "QuotaPeersModel" "cPeer" "[I" ∈ lw_all) (hd : decode cc pc = .ok (.getfield idx, 3)) : z_SO own cc nL ini d G l C pc 3 (zo_gR 8 27) := so_gR 8 27 (T := zT8) rfl zI8 rfl (by decide) (by decide) rfl rfl h hd
theorem xg_8_28 {idx : Nat} (h : Cond.fieldLink own idx "QuotaPeersModel" "cRole" "[I" ∈ lw_all) (hd : decode cc pc = .ok (.getfield idx, 3)) : z_SO own cc nL ini d G l C pc 3 (zo_gR 8 28) := so_gR 8 28 (T := zT8) rfl zI8 rfl (by decide) (by decide) rfl rfl h hd
theorem xg_8_29 {idx : Nat} (h : Cond.fieldLink own idx "QuotaPeersModel" "in" "[B" ∈ lw_all) (hd : decode cc pc = .ok (.getfield idx, 3)) : z_SO own cc nL ini d G l C pc 3 (zo_gR 8 29) := so_gR 8 29 (T := zT8) rfl zI8 rfl (by decide) (by decide) rfl rfl h hd
theorem xg_8_30 {idx : Nat} (h : Cond.fieldLink own idx "QuotaPeersModel" "inSize" "[I" ∈ lw_all) (hd : decode cc pc = .ok (.getfield idx, 3)) : z_SO own cc nL ini d G l C pc 3 (zo_gR 8 30) := so_gR 8 30 (T := zT8) rfl zI8 rfl (by decide) (by decide) rfl rfl h hd
theorem xg_8_31 {idx : Nat} (h : Cond.fieldLink own idx "QuotaPeersModel" "out" "[B" ∈ lw_all) (hd : decode cc pc = .ok (.getfield idx, 3)) : z_SO own cc nL ini d G l C pc 3 (zo_gR 8 31) := so_gR 8 31 (T := zT8) rfl zI8 rfl (by decide) (by decide) rfl rfl h hd
theorem xg_8_32 {idx : Nat} (h : Cond.fieldLink own idx "QuotaPeersModel" "outSize" "[I" ∈ lw_all) (hd : decode cc pc = .ok (.getfield idx, 3)) : z_SO own cc nL ini d G l C pc 3 (zo_gR 8 32) := so_gR 8 32 (T := zT8) rfl zI8 rfl (by decide) (by decide) rfl rfl h hd
theorem xg_8_33 {idx : Nat} (h : Cond.fieldLink own idx "QuotaPeersModel" "outFrom" "[I" ∈ lw_all) (hd : decode cc pc = .ok (.getfield idx, 3)) : z_SO own cc nL ini d G l C pc 3 (zo_gR 8 33) := so_gR 8 33 (T := zT8) rfl zI8 rfl (by decide) (by decide) rfl rfl h hd
theorem xg_8_36 {idx : Nat} (h : Cond.fieldLink own idx "QuotaPeersModel" "number" "[J" ∈ lw_all) (hd : decode cc pc = .ok (.getfield idx, 3)) : z_SO own cc nL ini d G l C pc 3 (zo_gR 8 36) := so_gR 8 36 (T := zT8) rfl zI8 rfl (by decide) (by decide) rfl rfl h hd
theorem xg_8_37 {idx : Nat} (h : Cond.fieldLink own idx "QuotaPeersModel" "balance" "[J" ∈ lw_all) (hd : decode cc pc = .ok (.getfield idx, 3)) : z_SO own cc nL ini d G l C pc 3 (zo_gR 8 37) := so_gR 8 37 (T := zT8) rfl zI8 rfl (by decide) (by decide) rfl rfl h hd
theorem xg_8_38 {idx : Nat} (h : Cond.fieldLink own idx "QuotaPeersModel" "reserved" "[J" ∈ lw_all) (hd : decode cc pc = .ok (.getfield idx, 3)) : z_SO own cc nL ini d G l C pc 3 (zo_gR 8 38) := so_gR 8 38 (T := zT8) rfl zI8 rfl (by decide) (by decide) rfl rfl h hd
theorem xg_8_39 {idx : Nat} (h : Cond.fieldLink own idx "QuotaPeersModel" "charged" "[J" ∈ lw_all) (hd : decode cc pc = .ok (.getfield idx, 3)) : z_SO own cc nL ini d G l C pc 3 (zo_gR 8 39) := so_gR 8 39 (T := zT8) rfl zI8 rfl (by decide) (by decide) rfl rfl h hd
theorem xg_8_41 {idx : Nat} (h : Cond.fieldLink own idx "QuotaPeersModel" "sName" "[B" ∈ lw_all) (hd : decode cc pc = .ok (.getfield idx, 3)) : z_SO own cc nL ini d G l C pc 3 (zo_gR 8 41) := so_gR 8 41 (T := zT8) rfl zI8 rfl (by decide) (by decide) rfl rfl h hd
theorem xg_8_42 {idx : Nat} (h : Cond.fieldLink own idx "QuotaPeersModel" "sHost" "[B" ∈ lw_all) (hd : decode cc pc = .ok (.getfield idx, 3)) : z_SO own cc nL ini d G l C pc 3 (zo_gR 8 42) := so_gR 8 42 (T := zT8) rfl zI8 rfl (by decide) (by decide) rfl rfl h hd
theorem xg_8_43 {idx : Nat} (h : Cond.fieldLink own idx "QuotaPeersModel" "sRealm" "[B" ∈ lw_all) (hd : decode cc pc = .ok (.getfield idx, 3)) : z_SO own cc nL ini d G l C pc 3 (zo_gR 8 43) := so_gR 8 43 (T := zT8) rfl zI8 rfl (by decide) (by decide) rfl rfl h hd
theorem xg_8_44 {idx : Nat} (h : Cond.fieldLink own idx "QuotaPeersModel" "sAccount" "[I" ∈ lw_all) (hd : decode cc pc = .ok (.getfield idx, 3)) : z_SO own cc nL ini d G l C pc 3 (zo_gR 8 44) := so_gR 8 44 (T := zT8) rfl zI8 rfl (by decide) (by decide) rfl rfl h hd
theorem xg_8_45 {idx : Nat} (h : Cond.fieldLink own idx "QuotaPeersModel" "sGrant" "[J" ∈ lw_all) (hd : decode cc pc = .ok (.getfield idx, 3)) : z_SO own cc nL ini d G l C pc 3 (zo_gR 8 45) := so_gR 8 45 (T := zT8) rfl zI8 rfl (by decide) (by decide) rfl rfl h hd
theorem xg_8_46 {idx : Nat} (h : Cond.fieldLink own idx "QuotaPeersModel" "sCount" "[J" ∈ lw_all) (hd : decode cc pc = .ok (.getfield idx, 3)) : z_SO own cc nL ini d G l C pc 3 (zo_gR 8 46) := so_gR 8 46 (T := zT8) rfl zI8 rfl (by decide) (by decide) rfl rfl h hd
theorem xg_8_47 {idx : Nat} (h : Cond.fieldLink own idx "QuotaPeersModel" "sPeer" "[I" ∈ lw_all) (hd : decode cc pc = .ok (.getfield idx, 3)) : z_SO own cc nL ini d G l C pc 3 (zo_gR 8 47) := so_gR 8 47 (T := zT8) rfl zI8 rfl (by decide) (by decide) rfl rfl h hd
theorem xg_8_48 {idx : Nat} (h : Cond.fieldLink own idx "QuotaPeersModel" "sEnd" "[I" ∈ lw_all) (hd : decode cc pc = .ok (.getfield idx, 3)) : z_SO own cc nL ini d G l C pc 3 (zo_gR 8 48) := so_gR 8 48 (T := zT8) rfl zI8 rfl (by decide) (by decide) rfl rfl h hd
theorem xg_8_50 {idx : Nat} (h : Cond.fieldLink own idx "QuotaPeersModel" "qName" "[B" ∈ lw_all) (hd : decode cc pc = .ok (.getfield idx, 3)) : z_SO own cc nL ini d G l C pc 3 (zo_gR 8 50) := so_gR 8 50 (T := zT8) rfl zI8 rfl (by decide) (by decide) rfl rfl h hd
theorem xg_8_51 {idx : Nat} (h : Cond.fieldLink own idx "QuotaPeersModel" "qHost" "[B" ∈ lw_all) (hd : decode cc pc = .ok (.getfield idx, 3)) : z_SO own cc nL ini d G l C pc 3 (zo_gR 8 51) := so_gR 8 51 (T := zT8) rfl zI8 rfl (by decide) (by decide) rfl rfl h hd
theorem xg_8_52 {idx : Nat} (h : Cond.fieldLink own idx "QuotaPeersModel" "qRealm" "[B" ∈ lw_all) (hd : decode cc pc = .ok (.getfield idx, 3)) : z_SO own cc nL ini d G l C pc 3 (zo_gR 8 52) := so_gR 8 52 (T := zT8) rfl zI8 rfl (by decide) (by decide) rfl rfl h hd
theorem xg_8_53 {idx : Nat} (h : Cond.fieldLink own idx "QuotaPeersModel" "qResult" "[J" ∈ lw_all) (hd : decode cc pc = .ok (.getfield idx, 3)) : z_SO own cc nL ini d G l C pc 3 (zo_gR 8 53) := so_gR 8 53 (T := zT8) rfl zI8 rfl (by decide) (by decide) rfl rfl h hd
theorem xg_8_54 {idx : Nat} (h : Cond.fieldLink own idx "QuotaPeersModel" "qPeer" "[I" ∈ lw_all) (hd : decode cc pc = .ok (.getfield idx, 3)) : z_SO own cc nL ini d G l C pc 3 (zo_gR 8 54) := so_gR 8 54 (T := zT8) rfl zI8 rfl (by decide) (by decide) rfl rfl h hd
theorem xg_8_55 {idx : Nat} (h : Cond.fieldLink own idx "QuotaPeersModel" "qTimes" "[I" ∈ lw_all) (hd : decode cc pc = .ok (.getfield idx, 3)) : z_SO own cc nL ini d G l C pc 3 (zo_gR 8 55) := so_gR 8 55 (T := zT8) rfl zI8 rfl (by decide) (by decide) rfl rfl h hd
theorem xg_8_56 {idx : Nat} (h : Cond.fieldLink own idx "QuotaPeersModel" "qHop" "[I" ∈ lw_all) (hd : decode cc pc = .ok (.getfield idx, 3)) : z_SO own cc nL ini d G l C pc 3 (zo_gR 8 56) := so_gR 8 56 (T := zT8) rfl zI8 rfl (by decide) (by decide) rfl rfl h hd
theorem xg_8_57 {idx : Nat} (h : Cond.fieldLink own idx "QuotaPeersModel" "qEnd" "[I" ∈ lw_all) (hd : decode cc pc = .ok (.getfield idx, 3)) : z_SO own cc nL ini d G l C pc 3 (zo_gR 8 57) := so_gR 8 57 (T := zT8) rfl zI8 rfl (by decide) (by decide) rfl rfl h hd
theorem xg_8_58 {idx : Nat} (h : Cond.fieldLink own idx "QuotaPeersModel" "qConnection" "[I" ∈ lw_all) (hd : decode cc pc = .ok (.getfield idx, 3)) : z_SO own cc nL ini d G l C pc 3 (zo_gR 8 58) := so_gR 8 58 (T := zT8) rfl zI8 rfl (by decide) (by decide) rfl rfl h hd
theorem xg_8_60 {idx : Nat} (h : Cond.fieldLink own idx "QuotaPeersModel" "kept" "[B" ∈ lw_all) (hd : decode cc pc = .ok (.getfield idx, 3)) : z_SO own cc nL ini d G l C pc 3 (zo_gR 8 60) := so_gR 8 60 (T := zT8) rfl zI8 rfl (by decide) (by decide) rfl rfl h hd
theorem xg_8_61 {idx : Nat} (h : Cond.fieldLink own idx "QuotaPeersModel" "keptSize" "[I" ∈ lw_all) (hd : decode cc pc = .ok (.getfield idx, 3)) : z_SO own cc nL ini d G l C pc 3 (zo_gR 8 61) := so_gR 8 61 (T := zT8) rfl zI8 rfl (by decide) (by decide) rfl rfl h hd
theorem xg_8_62 {idx : Nat} (h : Cond.fieldLink own idx "QuotaPeersModel" "keptHost" "[B" ∈ lw_all) (hd : decode cc pc = .ok (.getfield idx, 3)) : z_SO own cc nL ini d G l C pc 3 (zo_gR 8 62) := so_gR 8 62 (T := zT8) rfl zI8 rfl (by decide) (by decide) rfl rfl h hd
theorem xg_8_63 {idx : Nat} (h : Cond.fieldLink own idx "QuotaPeersModel" "keptEnd" "[I" ∈ lw_all) (hd : decode cc pc = .ok (.getfield idx, 3)) : z_SO own cc nL ini d G l C pc 3 (zo_gR 8 63) := so_gR 8 63 (T := zT8) rfl zI8 rfl (by decide) (by decide) rfl rfl h hd
theorem xg_8_64 {idx : Nat} (h : Cond.fieldLink own idx "QuotaPeersModel" "keptTill" "[I" ∈ lw_all) (hd : decode cc pc = .ok (.getfield idx, 3)) : z_SO own cc nL ini d G l C pc 3 (zo_gR 8 64) := so_gR 8 64 (T := zT8) rfl zI8 rfl (by decide) (by decide) rfl rfl h hd
theorem xg_8_65 {idx : Nat} (h : Cond.fieldLink own idx "QuotaPeersModel" "made" "[B" ∈ lw_all) (hd : decode cc pc = .ok (.getfield idx, 3)) : z_SO own cc nL ini d G l C pc 3 (zo_gR 8 65) := so_gR 8 65 (T := zT8) rfl zI8 rfl (by decide) (by decide) rfl rfl h hd
theorem xg_8_76 {idx : Nat} (h : Cond.fieldLink own idx "QuotaPeersModel" "keeps" "[I" ∈ lw_all) (hd : decode cc pc = .ok (.getfield idx, 3)) : z_SO own cc nL ini d G l C pc 3 (zo_gR 8 76) := so_gR 8 76 (T := zT8) rfl zI8 rfl (by decide) (by decide) rfl rfl h hd
theorem xg_8_77 {idx : Nat} (h : Cond.fieldLink own idx "QuotaPeersModel" "firstAt" "[I" ∈ lw_all) (hd : decode cc pc = .ok (.getfield idx, 3)) : z_SO own cc nL ini d G l C pc 3 (zo_gR 8 77) := so_gR 8 77 (T := zT8) rfl zI8 rfl (by decide) (by decide) rfl rfl h hd
theorem xg_8_78 {idx : Nat} (h : Cond.fieldLink own idx "QuotaPeersModel" "firstSize" "[I" ∈ lw_all) (hd : decode cc pc = .ok (.getfield idx, 3)) : z_SO own cc nL ini d G l C pc 3 (zo_gR 8 78) := so_gR 8 78 (T := zT8) rfl zI8 rfl (by decide) (by decide) rfl rfl h hd
theorem xg_8_79 {idx : Nat} (h : Cond.fieldLink own idx "QuotaPeersModel" "often" "[I" ∈ lw_all) (hd : decode cc pc = .ok (.getfield idx, 3)) : z_SO own cc nL ini d G l C pc 3 (zo_gR 8 79) := so_gR 8 79 (T := zT8) rfl zI8 rfl (by decide) (by decide) rfl rfl h hd
theorem xg_8_85 {idx : Nat} (h : Cond.fieldLink own idx "QuotaPeersModel" "ends" "[I" ∈ lw_all) (hd : decode cc pc = .ok (.getfield idx, 3)) : z_SO own cc nL ini d G l C pc 3 (zo_gR 8 85) := so_gR 8 85 (T := zT8) rfl zI8 rfl (by decide) (by decide) rfl rfl h hd
theorem xg_8_86 {idx : Nat} (h : Cond.fieldLink own idx "QuotaPeersModel" "behind" "[I" ∈ lw_all) (hd : decode cc pc = .ok (.getfield idx, 3)) : z_SO own cc nL ini d G l C pc 3 (zo_gR 8 86) := so_gR 8 86 (T := zT8) rfl zI8 rfl (by decide) (by decide) rfl rfl h hd
theorem xg_8_87 {idx : Nat} (h : Cond.fieldLink own idx "QuotaPeersModel" "group" "[I" ∈ lw_all) (hd : decode cc pc = .ok (.getfield idx, 3)) : z_SO own cc nL ini d G l C pc 3 (zo_gR 8 87) := so_gR 8 87 (T := zT8) rfl zI8 rfl (by decide) (by decide) rfl rfl h hd
theorem xg_9_5 {idx : Nat} (h : Cond.fieldLink own idx "QuotaPeers$Peer" "own" "LQuotaPeers$Link;" ∈ lw_all) (hd : decode cc pc = .ok (.getfield idx, 3)) : z_SO own cc nL ini d G l C pc 3 (zo_gR 9 5) := so_gR 9 5 (T := zT9) rfl zI9 rfl (by decide) (by decide) rfl rfl h hd
theorem xg_9_6 {idx : Nat} (h : Cond.fieldLink own idx "QuotaPeers$Peer" "came" "LQuotaPeers$Link;" ∈ lw_all) (hd : decode cc pc = .ok (.getfield idx, 3)) : z_SO own cc nL ini d G l C pc 3 (zo_gR 9 6) := so_gR 9 6 (T := zT9) rfl zI9 rfl (by decide) (by decide) rfl rfl h hd
theorem xgN_1_0 {idx : Nat} {host : String} (h : Cond.fieldLinkNest own idx "QuotaPeers$Text" "cells" "[B" host ∈ lw_tbl) (hd : decode cc pc = .ok (.getfield idx, 3)) : z_SO own cc nL ini d G l C pc 3 (zo_gR 1 0) := so_gRN 1 0 (T := zT1) rfl zI1 rfl (by decide) (by decide) rfl rfl h hd
theorem xgN_2_0 {idx : Nat} {host : String} (h : Cond.fieldLinkNest own idx "QuotaPeers$Page" "cells" "[B" host ∈ lw_tbl) (hd : decode cc pc = .ok (.getfield idx, 3)) : z_SO own cc nL ini d G l C pc 3 (zo_gR 2 0) := so_gRN 2 0 (T := zT2) rfl zI2 rfl (by decide) (by decide) rfl rfl h hd
theorem xgN_3_1 {idx : Nat} {host : String} (h : Cond.fieldLinkNest own idx "QuotaPeers$Message" "cells" "[B" host ∈ lw_tbl) (hd : decode cc pc = .ok (.getfield idx, 3)) : z_SO own cc nL ini d G l C pc 3 (zo_gR 3 1) := so_gRN 3 1 (T := zT3) rfl zI3 rfl (by decide) (by decide) rfl rfl h hd
theorem xgN_3_8 {idx : Nat} {host : String} (h : Cond.fieldLinkNest own idx "QuotaPeers$Message" "codes" "[I" host ∈ lw_tbl) (hd : decode cc pc = .ok (.getfield idx, 3)) : z_SO own cc nL ini d G l C pc 3 (zo_gR 3 8) := so_gRN 3 8 (T := zT3) rfl zI3 rfl (by decide) (by decide) rfl rfl h hd
theorem xgN_3_9 {idx : Nat} {host : String} (h : Cond.fieldLinkNest own idx "QuotaPeers$Message" "froms" "[I" host ∈ lw_tbl) (hd : decode cc pc = .ok (.getfield idx, 3)) : z_SO own cc nL ini d G l C pc 3 (zo_gR 3 9) := so_gRN 3 9 (T := zT3) rfl zI3 rfl (by decide) (by decide) rfl rfl h hd
theorem xgN_3_10 {idx : Nat} {host : String} (h : Cond.fieldLinkNest own idx "QuotaPeers$Message" "sizes" "[I" host ∈ lw_tbl) (hd : decode cc pc = .ok (.getfield idx, 3)) : z_SO own cc nL ini d G l C pc 3 (zo_gR 3 10) := so_gRN 3 10 (T := zT3) rfl zI3 rfl (by decide) (by decide) rfl rfl h hd
theorem xgN_4_2 {idx : Nat} {host : String} (h : Cond.fieldLinkNest own idx "QuotaPeers$Link" "owner" "LQuotaPeers$Peer;" host ∈ lw_tbl) (hd : decode cc pc = .ok (.getfield idx, 3)) : z_SO own cc nL ini d G l C pc 3 (zo_gR 4 2) := so_gRN 4 2 (T := zT4) rfl zI4 rfl (by decide) (by decide) rfl rfl h hd
theorem xgN_4_4 {idx : Nat} {host : String} (h : Cond.fieldLinkNest own idx "QuotaPeers$Link" "in" "[B" host ∈ lw_tbl) (hd : decode cc pc = .ok (.getfield idx, 3)) : z_SO own cc nL ini d G l C pc 3 (zo_gR 4 4) := so_gRN 4 4 (T := zT4) rfl zI4 rfl (by decide) (by decide) rfl rfl h hd
theorem xgN_5_0 {idx : Nat} {host : String} (h : Cond.fieldLinkNest own idx "QuotaPeers$Session" "name" "LQuotaPeers$Text;" host ∈ lw_tbl) (hd : decode cc pc = .ok (.getfield idx, 3)) : z_SO own cc nL ini d G l C pc 3 (zo_gR 5 0) := so_gRN 5 0 (T := zT5) rfl zI5 rfl (by decide) (by decide) rfl rfl h hd
theorem xgN_5_1 {idx : Nat} {host : String} (h : Cond.fieldLinkNest own idx "QuotaPeers$Session" "host" "LQuotaPeers$Text;" host ∈ lw_tbl) (hd : decode cc pc = .ok (.getfield idx, 3)) : z_SO own cc nL ini d G l C pc 3 (zo_gR 5 1) := so_gRN 5 1 (T := zT5) rfl zI5 rfl (by decide) (by decide) rfl rfl h hd
theorem xgN_5_2 {idx : Nat} {host : String} (h : Cond.fieldLinkNest own idx "QuotaPeers$Session" "realm" "LQuotaPeers$Text;" host ∈ lw_tbl) (hd : decode cc pc = .ok (.getfield idx, 3)) : z_SO own cc nL ini d G l C pc 3 (zo_gR 5 2) := so_gRN 5 2 (T := zT5) rfl zI5 rfl (by decide) (by decide) rfl rfl h hd
theorem xgN_5_3 {idx : Nat} {host : String} (h : Cond.fieldLinkNest own idx "QuotaPeers$Session" "account" "LQuotaPeers$Account;" host ∈ lw_tbl) (hd : decode cc pc = .ok (.getfield idx, 3)) : z_SO own cc nL ini d G l C pc 3 (zo_gR 5 3) := so_gRN 5 3 (T := zT5) rfl zI5 rfl (by decide) (by decide) rfl rfl h hd
theorem xgN_6_0 {idx : Nat} {host : String} (h : Cond.fieldLinkNest own idx "QuotaPeers$Question" "session" "LQuotaPeers$Text;" host ∈ lw_tbl) (hd : decode cc pc = .ok (.getfield idx, 3)) : z_SO own cc nL ini d G l C pc 3 (zo_gR 6 0) := so_gRN 6 0 (T := zT6) rfl zI6 rfl (by decide) (by decide) rfl rfl h hd
theorem xgN_6_1 {idx : Nat} {host : String} (h : Cond.fieldLinkNest own idx "QuotaPeers$Question" "host" "LQuotaPeers$Text;" host ∈ lw_tbl) (hd : decode cc pc = .ok (.getfield idx, 3)) : z_SO own cc nL ini d G l C pc 3 (zo_gR 6 1) := so_gRN 6 1 (T := zT6) rfl zI6 rfl (by decide) (by decide) rfl rfl h hd
theorem xgN_6_2 {idx : Nat} {host : String} (h : Cond.fieldLinkNest own idx "QuotaPeers$Question" "realm" "LQuotaPeers$Text;" host ∈ lw_tbl) (hd : decode cc pc = .ok (.getfield idx, 3)) : z_SO own cc nL ini d G l C pc 3 (zo_gR 6 2) := so_gRN 6 2 (T := zT6) rfl zI6 rfl (by decide) (by decide) rfl rfl h hd
theorem xgN_6_4 {idx : Nat} {host : String} (h : Cond.fieldLinkNest own idx "QuotaPeers$Question" "peer" "LQuotaPeers$Peer;" host ∈ lw_tbl) (hd : decode cc pc = .ok (.getfield idx, 3)) : z_SO own cc nL ini d G l C pc 3 (zo_gR 6 4) := so_gRN 6 4 (T := zT6) rfl zI6 rfl (by decide) (by decide) rfl rfl h hd
theorem xgN_7_0 {idx : Nat} {host : String} (h : Cond.fieldLinkNest own idx "QuotaPeers$Answer" "host" "LQuotaPeers$Text;" host ∈ lw_tbl) (hd : decode cc pc = .ok (.getfield idx, 3)) : z_SO own cc nL ini d G l C pc 3 (zo_gR 7 0) := so_gRN 7 0 (T := zT7) rfl zI7 rfl (by decide) (by decide) rfl rfl h hd
theorem xgN_7_3 {idx : Nat} {host : String} (h : Cond.fieldLinkNest own idx "QuotaPeers$Answer" "cells" "[B" host ∈ lw_tbl) (hd : decode cc pc = .ok (.getfield idx, 3)) : z_SO own cc nL ini d G l C pc 3 (zo_gR 7 3) := so_gRN 7 3 (T := zT7) rfl zI7 rfl (by decide) (by decide) rfl rfl h hd
theorem xgN_9_1 {idx : Nat} {host : String} (h : Cond.fieldLinkNest own idx "QuotaPeers$Peer" "host" "LQuotaPeers$Text;" host ∈ lw_tbl) (hd : decode cc pc = .ok (.getfield idx, 3)) : z_SO own cc nL ini d G l C pc 3 (zo_gR 9 1) := so_gRN 9 1 (T := zT9) rfl zI9 rfl (by decide) (by decide) rfl rfl h hd
theorem xgN_9_5 {idx : Nat} {host : String} (h : Cond.fieldLinkNest own idx "QuotaPeers$Peer" "own" "LQuotaPeers$Link;" host ∈ lw_tbl) (hd : decode cc pc = .ok (.getfield idx, 3)) : z_SO own cc nL ini d G l C pc 3 (zo_gR 9 5) := so_gRN 9 5 (T := zT9) rfl zI9 rfl (by decide) (by decide) rfl rfl h hd
theorem xgN_9_6 {idx : Nat} {host : String} (h : Cond.fieldLinkNest own idx "QuotaPeers$Peer" "came" "LQuotaPeers$Link;" host ∈ lw_tbl) (hd : decode cc pc = .ok (.getfield idx, 3)) : z_SO own cc nL ini d G l C pc 3 (zo_gR 9 6) := so_gRN 9 6 (T := zT9) rfl zI9 rfl (by decide) (by decide) rfl rfl h hd
theorem xp_0_8 {idx : Nat} (h : Cond.fieldLink own idx "QuotaPeers" "peerCount" "I" ∈ lw_all) (hd : decode cc pc = .ok (.putfield idx, 3)) : z_SO own cc nL ini d G l C pc 3 (zo_pI 0 8) := so_pI 0 8 (T := zT0) rfl zI0 zF0_ok zN0 rfl (by decide) (by decide) rfl rfl rfl rfl h hd
theorem xp_0_10 {idx : Nat} (h : Cond.fieldLink own idx "QuotaPeers" "accountCount" "I" ∈ lw_all) (hd : decode cc pc = .ok (.putfield idx, 3)) : z_SO own cc nL ini d G l C pc 3 (zo_pI 0 10) := so_pI 0 10 (T := zT0) rfl zI0 zF0_ok zN0 rfl (by decide) (by decide) rfl rfl rfl rfl h hd
theorem xp_0_12 {idx : Nat} (h : Cond.fieldLink own idx "QuotaPeers" "sessionCount" "I" ∈ lw_all) (hd : decode cc pc = .ok (.putfield idx, 3)) : z_SO own cc nL ini d G l C pc 3 (zo_pI 0 12) := so_pI 0 12 (T := zT0) rfl zI0 zF0_ok zN0 rfl (by decide) (by decide) rfl rfl rfl rfl h hd
theorem xp_0_14 {idx : Nat} (h : Cond.fieldLink own idx "QuotaPeers" "askCount" "I" ∈ lw_all) (hd : decode cc pc = .ok (.putfield idx, 3)) : z_SO own cc nL ini d G l C pc 3 (zo_pI 0 14) := so_pI 0 14 (T := zT0) rfl zI0 zF0_ok zN0 rfl (by decide) (by decide) rfl rfl rfl rfl h hd
theorem xp_0_16 {idx : Nat} (h : Cond.fieldLink own idx "QuotaPeers" "keepCount" "I" ∈ lw_all) (hd : decode cc pc = .ok (.putfield idx, 3)) : z_SO own cc nL ini d G l C pc 3 (zo_pI 0 16) := so_pI 0 16 (T := zT0) rfl zI0 zF0_ok zN0 rfl (by decide) (by decide) rfl rfl rfl rfl h hd
theorem xp_0_17 {idx : Nat} (h : Cond.fieldLink own idx "QuotaPeers" "now" "I" ∈ lw_all) (hd : decode cc pc = .ok (.putfield idx, 3)) : z_SO own cc nL ini d G l C pc 3 (zo_pI 0 17) := so_pI 0 17 (T := zT0) rfl zI0 zF0_ok zN0 rfl (by decide) (by decide) rfl rfl rfl rfl h hd
theorem xp_0_18 {idx : Nat} (h : Cond.fieldLink own idx "QuotaPeers" "hops" "I" ∈ lw_all) (hd : decode cc pc = .ok (.putfield idx, 3)) : z_SO own cc nL ini d G l C pc 3 (zo_pI 0 18) := so_pI 0 18 (T := zT0) rfl zI0 zF0_ok zN0 rfl (by decide) (by decide) rfl rfl rfl rfl h hd
theorem xp_0_19 {idx : Nat} (h : Cond.fieldLink own idx "QuotaPeers" "lost" "I" ∈ lw_all) (hd : decode cc pc = .ok (.putfield idx, 3)) : z_SO own cc nL ini d G l C pc 3 (zo_pI 0 19) := so_pI 0 19 (T := zT0) rfl zI0 zF0_ok zN0 rfl (by decide) (by decide) rfl rfl rfl rfl h hd
theorem xp_0_21 {idx : Nat} (h : Cond.fieldLink own idx "QuotaPeers" "enough" "I" ∈ lw_all) (hd : decode cc pc = .ok (.putfield idx, 3)) : z_SO own cc nL ini d G l C pc 3 (zo_pI 0 21) := so_pI 0 21 (T := zT0) rfl zI0 zF0_ok zN0 rfl (by decide) (by decide) rfl rfl rfl rfl h hd
theorem xp_1_1 {idx : Nat} (h : Cond.fieldLink own idx "QuotaPeers$Text" "size" "I" ∈ lw_all) (hd : decode cc pc = .ok (.putfield idx, 3)) : z_SO own cc nL ini d G l C pc 3 (zo_pI 1 1) := so_pI 1 1 (T := zT1) rfl zI1 zF1_ok zN1 rfl (by decide) (by decide) rfl rfl rfl rfl h hd
theorem xp_2_1 {idx : Nat} (h : Cond.fieldLink own idx "QuotaPeers$Page" "size" "I" ∈ lw_all) (hd : decode cc pc = .ok (.putfield idx, 3)) : z_SO own cc nL ini d G l C pc 3 (zo_pI 2 1) := so_pI 2 1 (T := zT2) rfl zI2 zF2_ok zN2 rfl (by decide) (by decide) rfl rfl rfl rfl h hd
theorem xp_3_2 {idx : Nat} (h : Cond.fieldLink own idx "QuotaPeers$Message" "size" "I" ∈ lw_all) (hd : decode cc pc = .ok (.putfield idx, 3)) : z_SO own cc nL ini d G l C pc 3 (zo_pI 3 2) := so_pI 3 2 (T := zT3) rfl zI3 zF3_ok zN3 rfl (by decide) (by decide) rfl rfl rfl rfl h hd
theorem xp_3_3 {idx : Nat} (h : Cond.fieldLink own idx "QuotaPeers$Message" "flags" "I" ∈ lw_all) (hd : decode cc pc = .ok (.putfield idx, 3)) : z_SO own cc nL ini d G l C pc 3 (zo_pI 3 3) := so_pI 3 3 (T := zT3) rfl zI3 zF3_ok zN3 rfl (by decide) (by decide) rfl rfl rfl rfl h hd
theorem xp_3_4 {idx : Nat} (h : Cond.fieldLink own idx "QuotaPeers$Message" "command" "I" ∈ lw_all) (hd : decode cc pc = .ok (.putfield idx, 3)) : z_SO own cc nL ini d G l C pc 3 (zo_pI 3 4) := so_pI 3 4 (T := zT3) rfl zI3 zF3_ok zN3 rfl (by decide) (by decide) rfl rfl rfl rfl h hd
theorem xp_3_5 {idx : Nat} (h : Cond.fieldLink own idx "QuotaPeers$Message" "application" "I" ∈ lw_all) (hd : decode cc pc = .ok (.putfield idx, 3)) : z_SO own cc nL ini d G l C pc 3 (zo_pI 3 5) := so_pI 3 5 (T := zT3) rfl zI3 zF3_ok zN3 rfl (by decide) (by decide) rfl rfl rfl rfl h hd
theorem xp_3_6 {idx : Nat} (h : Cond.fieldLink own idx "QuotaPeers$Message" "hop" "I" ∈ lw_all) (hd : decode cc pc = .ok (.putfield idx, 3)) : z_SO own cc nL ini d G l C pc 3 (zo_pI 3 6) := so_pI 3 6 (T := zT3) rfl zI3 zF3_ok zN3 rfl (by decide) (by decide) rfl rfl rfl rfl h hd
theorem xp_3_7 {idx : Nat} (h : Cond.fieldLink own idx "QuotaPeers$Message" "end" "I" ∈ lw_all) (hd : decode cc pc = .ok (.putfield idx, 3)) : z_SO own cc nL ini d G l C pc 3 (zo_pI 3 7) := so_pI 3 7 (T := zT3) rfl zI3 zF3_ok zN3 rfl (by decide) (by decide) rfl rfl rfl rfl h hd
theorem xp_3_11 {idx : Nat} (h : Cond.fieldLink own idx "QuotaPeers$Message" "count" "I" ∈ lw_all) (hd : decode cc pc = .ok (.putfield idx, 3)) : z_SO own cc nL ini d G l C pc 3 (zo_pI 3 11) := so_pI 3 11 (T := zT3) rfl zI3 zF3_ok zN3 rfl (by decide) (by decide) rfl rfl rfl rfl h hd
theorem xp_3_12 {idx : Nat} (h : Cond.fieldLink own idx "QuotaPeers$Message" "wrong" "I" ∈ lw_all) (hd : decode cc pc = .ok (.putfield idx, 3)) : z_SO own cc nL ini d G l C pc 3 (zo_pI 3 12) := so_pI 3 12 (T := zT3) rfl zI3 zF3_ok zN3 rfl (by decide) (by decide) rfl rfl rfl rfl h hd
theorem xp_3_13 {idx : Nat} (h : Cond.fieldLink own idx "QuotaPeers$Message" "wrongCode" "I" ∈ lw_all) (hd : decode cc pc = .ok (.putfield idx, 3)) : z_SO own cc nL ini d G l C pc 3 (zo_pI 3 13) := so_pI 3 13 (T := zT3) rfl zI3 zF3_ok zN3 rfl (by decide) (by decide) rfl rfl rfl rfl h hd
theorem xp_3_14 {idx : Nat} (h : Cond.fieldLink own idx "QuotaPeers$Message" "foundSize" "I" ∈ lw_all) (hd : decode cc pc = .ok (.putfield idx, 3)) : z_SO own cc nL ini d G l C pc 3 (zo_pI 3 14) := so_pI 3 14 (T := zT3) rfl zI3 zF3_ok zN3 rfl (by decide) (by decide) rfl rfl rfl rfl h hd
theorem xp_4_1 {idx : Nat} (h : Cond.fieldLink own idx "QuotaPeers$Link" "state" "I" ∈ lw_all) (hd : decode cc pc = .ok (.putfield idx, 3)) : z_SO own cc nL ini d G l C pc 3 (zo_pI 4 1) := so_pI 4 1 (T := zT4) rfl zI4 zF4_ok zN4 rfl (by decide) (by decide) rfl rfl rfl rfl h hd
theorem xp_4_5 {idx : Nat} (h : Cond.fieldLink own idx "QuotaPeers$Link" "came" "I" ∈ lw_all) (hd : decode cc pc = .ok (.putfield idx, 3)) : z_SO own cc nL ini d G l C pc 3 (zo_pI 4 5) := so_pI 4 5 (T := zT4) rfl zI4 zF4_ok zN4 rfl (by decide) (by decide) rfl rfl rfl rfl h hd
theorem xp_4_7 {idx : Nat} (h : Cond.fieldLink own idx "QuotaPeers$Link" "first" "I" ∈ lw_all) (hd : decode cc pc = .ok (.putfield idx, 3)) : z_SO own cc nL ini d G l C pc 3 (zo_pI 4 7) := so_pI 4 7 (T := zT4) rfl zI4 zF4_ok zN4 rfl (by decide) (by decide) rfl rfl rfl rfl h hd
theorem xp_4_8 {idx : Nat} (h : Cond.fieldLink own idx "QuotaPeers$Link" "waiting" "I" ∈ lw_all) (hd : decode cc pc = .ok (.putfield idx, 3)) : z_SO own cc nL ini d G l C pc 3 (zo_pI 4 8) := so_pI 4 8 (T := zT4) rfl zI4 zF4_ok zN4 rfl (by decide) (by decide) rfl rfl rfl rfl h hd
theorem xp_8_0 {idx : Nat} (h : Cond.fieldLink own idx "QuotaPeersModel" "code" "I" ∈ lw_all) (hd : decode cc pc = .ok (.putfield idx, 3)) : z_SO own cc nL ini d G l C pc 3 (zo_pI 8 0) := so_pI 8 0 (T := zT8) rfl zI8 zF8_ok zN8 rfl (by decide) (by decide) rfl rfl rfl rfl h hd
theorem xp_8_1 {idx : Nat} (h : Cond.fieldLink own idx "QuotaPeersModel" "now" "I" ∈ lw_all) (hd : decode cc pc = .ok (.putfield idx, 3)) : z_SO own cc nL ini d G l C pc 3 (zo_pI 8 1) := so_pI 8 1 (T := zT8) rfl zI8 zF8_ok zN8 rfl (by decide) (by decide) rfl rfl rfl rfl h hd
theorem xp_8_2 {idx : Nat} (h : Cond.fieldLink own idx "QuotaPeersModel" "lost" "I" ∈ lw_all) (hd : decode cc pc = .ok (.putfield idx, 3)) : z_SO own cc nL ini d G l C pc 3 (zo_pI 8 2) := so_pI 8 2 (T := zT8) rfl zI8 zF8_ok zN8 rfl (by decide) (by decide) rfl rfl rfl rfl h hd
theorem xp_8_4 {idx : Nat} (h : Cond.fieldLink own idx "QuotaPeersModel" "signs" "I" ∈ lw_all) (hd : decode cc pc = .ok (.putfield idx, 3)) : z_SO own cc nL ini d G l C pc 3 (zo_pI 8 4) := so_pI 8 4 (T := zT8) rfl zI8 zF8_ok zN8 rfl (by decide) (by decide) rfl rfl rfl rfl h hd
theorem xp_8_6 {idx : Nat} (h : Cond.fieldLink own idx "QuotaPeersModel" "hostSize" "I" ∈ lw_all) (hd : decode cc pc = .ok (.putfield idx, 3)) : z_SO own cc nL ini d G l C pc 3 (zo_pI 8 6) := so_pI 8 6 (T := zT8) rfl zI8 zF8_ok zN8 rfl (by decide) (by decide) rfl rfl rfl rfl h hd
theorem xp_8_7 {idx : Nat} (h : Cond.fieldLink own idx "QuotaPeersModel" "peers" "I" ∈ lw_all) (hd : decode cc pc = .ok (.putfield idx, 3)) : z_SO own cc nL ini d G l C pc 3 (zo_pI 8 7) := so_pI 8 7 (T := zT8) rfl zI8 zF8_ok zN8 rfl (by decide) (by decide) rfl rfl rfl rfl h hd
theorem xp_8_34 {idx : Nat} (h : Cond.fieldLink own idx "QuotaPeersModel" "hop" "I" ∈ lw_all) (hd : decode cc pc = .ok (.putfield idx, 3)) : z_SO own cc nL ini d G l C pc 3 (zo_pI 8 34) := so_pI 8 34 (T := zT8) rfl zI8 zF8_ok zN8 rfl (by decide) (by decide) rfl rfl rfl rfl h hd
theorem xp_8_35 {idx : Nat} (h : Cond.fieldLink own idx "QuotaPeersModel" "accounts" "I" ∈ lw_all) (hd : decode cc pc = .ok (.putfield idx, 3)) : z_SO own cc nL ini d G l C pc 3 (zo_pI 8 35) := so_pI 8 35 (T := zT8) rfl zI8 zF8_ok zN8 rfl (by decide) (by decide) rfl rfl rfl rfl h hd
theorem xp_8_40 {idx : Nat} (h : Cond.fieldLink own idx "QuotaPeersModel" "many" "I" ∈ lw_all) (hd : decode cc pc = .ok (.putfield idx, 3)) : z_SO own cc nL ini d G l C pc 3 (zo_pI 8 40) := so_pI 8 40 (T := zT8) rfl zI8 zF8_ok zN8 rfl (by decide) (by decide) rfl rfl rfl rfl h hd
theorem xp_8_49 {idx : Nat} (h : Cond.fieldLink own idx "QuotaPeersModel" "asks" "I" ∈ lw_all) (hd : decode cc pc = .ok (.putfield idx, 3)) : z_SO own cc nL ini d G l C pc 3 (zo_pI 8 49) := so_pI 8 49 (T := zT8) rfl zI8 zF8_ok zN8 rfl (by decide) (by decide) rfl rfl rfl rfl h hd
theorem xp_8_59 {idx : Nat} (h : Cond.fieldLink own idx "QuotaPeersModel" "keptMany" "I" ∈ lw_all) (hd : decode cc pc = .ok (.putfield idx, 3)) : z_SO own cc nL ini d G l C pc 3 (zo_pI 8 59) := so_pI 8 59 (T := zT8) rfl zI8 zF8_ok zN8 rfl (by decide) (by decide) rfl rfl rfl rfl h hd
theorem xp_8_66 {idx : Nat} (h : Cond.fieldLink own idx "QuotaPeersModel" "size" "I" ∈ lw_all) (hd : decode cc pc = .ok (.putfield idx, 3)) : z_SO own cc nL ini d G l C pc 3 (zo_pI 8 66) := so_pI 8 66 (T := zT8) rfl zI8 zF8_ok zN8 rfl (by decide) (by decide) rfl rfl rfl rfl h hd
theorem xp_8_67 {idx : Nat} (h : Cond.fieldLink own idx "QuotaPeersModel" "base" "I" ∈ lw_all) (hd : decode cc pc = .ok (.putfield idx, 3)) : z_SO own cc nL ini d G l C pc 3 (zo_pI 8 67) := so_pI 8 67 (T := zT8) rfl zI8 zF8_ok zN8 rfl (by decide) (by decide) rfl rfl rfl rfl h hd
theorem xp_8_68 {idx : Nat} (h : Cond.fieldLink own idx "QuotaPeersModel" "length" "I" ∈ lw_all) (hd : decode cc pc = .ok (.putfield idx, 3)) : z_SO own cc nL ini d G l C pc 3 (zo_pI 8 68) := so_pI 8 68 (T := zT8) rfl zI8 zF8_ok zN8 rfl (by decide) (by decide) rfl rfl rfl rfl h hd
theorem xp_8_69 {idx : Nat} (h : Cond.fieldLink own idx "QuotaPeersModel" "flags" "I" ∈ lw_all) (hd : decode cc pc = .ok (.putfield idx, 3)) : z_SO own cc nL ini d G l C pc 3 (zo_pI 8 69) := so_pI 8 69 (T := zT8) rfl zI8 zF8_ok zN8 rfl (by decide) (by decide) rfl rfl rfl rfl h hd
theorem xp_8_70 {idx : Nat} (h : Cond.fieldLink own idx "QuotaPeersModel" "command" "I" ∈ lw_all) (hd : decode cc pc = .ok (.putfield idx, 3)) : z_SO own cc nL ini d G l C pc 3 (zo_pI 8 70) := so_pI 8 70 (T := zT8) rfl zI8 zF8_ok zN8 rfl (by decide) (by decide) rfl rfl rfl rfl h hd
theorem xp_8_71 {idx : Nat} (h : Cond.fieldLink own idx "QuotaPeersModel" "application" "I" ∈ lw_all) (hd : decode cc pc = .ok (.putfield idx, 3)) : z_SO own cc nL ini d G l C pc 3 (zo_pI 8 71) := so_pI 8 71 (T := zT8) rfl zI8 zF8_ok zN8 rfl (by decide) (by decide) rfl rfl rfl rfl h hd
theorem xp_8_72 {idx : Nat} (h : Cond.fieldLink own idx "QuotaPeersModel" "theirHop" "I" ∈ lw_all) (hd : decode cc pc = .ok (.putfield idx, 3)) : z_SO own cc nL ini d G l C pc 3 (zo_pI 8 72) := so_pI 8 72 (T := zT8) rfl zI8 zF8_ok zN8 rfl (by decide) (by decide) rfl rfl rfl rfl h hd
theorem xp_8_73 {idx : Nat} (h : Cond.fieldLink own idx "QuotaPeersModel" "theirEnd" "I" ∈ lw_all) (hd : decode cc pc = .ok (.putfield idx, 3)) : z_SO own cc nL ini d G l C pc 3 (zo_pI 8 73) := so_pI 8 73 (T := zT8) rfl zI8 zF8_ok zN8 rfl (by decide) (by decide) rfl rfl rfl rfl h hd
theorem xp_8_74 {idx : Nat} (h : Cond.fieldLink own idx "QuotaPeersModel" "wrong" "I" ∈ lw_all) (hd : decode cc pc = .ok (.putfield idx, 3)) : z_SO own cc nL ini d G l C pc 3 (zo_pI 8 74) := so_pI 8 74 (T := zT8) rfl zI8 zF8_ok zN8 rfl (by decide) (by decide) rfl rfl rfl rfl h hd
theorem xp_8_75 {idx : Nat} (h : Cond.fieldLink own idx "QuotaPeersModel" "wrongCode" "I" ∈ lw_all) (hd : decode cc pc = .ok (.putfield idx, 3)) : z_SO own cc nL ini d G l C pc 3 (zo_pI 8 75) := so_pI 8 75 (T := zT8) rfl zI8 zF8_ok zN8 rfl (by decide) (by decide) rfl rfl rfl rfl h hd
theorem xp_8_81 {idx : Nat} (h : Cond.fieldLink own idx "QuotaPeersModel" "whoAt" "I" ∈ lw_all) (hd : decode cc pc = .ok (.putfield idx, 3)) : z_SO own cc nL ini d G l C pc 3 (zo_pI 8 81) := so_pI 8 81 (T := zT8) rfl zI8 zF8_ok zN8 rfl (by decide) (by decide) rfl rfl rfl rfl h hd
theorem xp_8_82 {idx : Nat} (h : Cond.fieldLink own idx "QuotaPeersModel" "whoSize" "I" ∈ lw_all) (hd : decode cc pc = .ok (.putfield idx, 3)) : z_SO own cc nL ini d G l C pc 3 (zo_pI 8 82) := so_pI 8 82 (T := zT8) rfl zI8 zF8_ok zN8 rfl (by decide) (by decide) rfl rfl rfl rfl h hd
theorem xp_8_83 {idx : Nat} (h : Cond.fieldLink own idx "QuotaPeersModel" "wantedAt" "I" ∈ lw_all) (hd : decode cc pc = .ok (.putfield idx, 3)) : z_SO own cc nL ini d G l C pc 3 (zo_pI 8 83) := so_pI 8 83 (T := zT8) rfl zI8 zF8_ok zN8 rfl (by decide) (by decide) rfl rfl rfl rfl h hd
theorem xp_8_84 {idx : Nat} (h : Cond.fieldLink own idx "QuotaPeersModel" "usedAt" "I" ∈ lw_all) (hd : decode cc pc = .ok (.putfield idx, 3)) : z_SO own cc nL ini d G l C pc 3 (zo_pI 8 84) := so_pI 8 84 (T := zT8) rfl zI8 zF8_ok zN8 rfl (by decide) (by decide) rfl rfl rfl rfl h hd
theorem xp_8_88 {idx : Nat} (h : Cond.fieldLink own idx "QuotaPeersModel" "result" "I" ∈ lw_all) (hd : decode cc pc = .ok (.putfield idx, 3)) : z_SO own cc nL ini d G l C pc 3 (zo_pI 8 88) := so_pI 8 88 (T := zT8) rfl zI8 zF8_ok zN8 rfl (by decide) (by decide) rfl rfl rfl rfl h hd
theorem xp_8_91 {idx : Nat} (h : Cond.fieldLink own idx "QuotaPeersModel" "enough" "I" ∈ lw_all) (hd : decode cc pc = .ok (.putfield idx, 3)) : z_SO own cc nL ini d G l C pc 3 (zo_pI 8 91) := so_pI 8 91 (T := zT8) rfl zI8 zF8_ok zN8 rfl (by decide) (by decide) rfl rfl rfl rfl h hd
theorem xp_9_12 {idx : Nat} (h : Cond.fieldLink own idx "QuotaPeers$Peer" "due" "I" ∈ lw_all) (hd : decode cc pc = .ok (.putfield idx, 3)) : z_SO own cc nL ini d G l C pc 3 (zo_pI 9 12) := so_pI 9 12 (T := zT9) rfl zI9 zF9_ok zN9 rfl (by decide) (by decide) rfl rfl rfl rfl h hd
theorem xpF_4_0 {idx : Nat} (hini : ini = true) (hown : "QuotaPeers$Link" = own) (h : Cond.fieldLink own idx "QuotaPeers$Link" "number" "I" ∈ lw_all) (hd : decode cc pc = .ok (.putfield idx, 3)) : z_SO own cc nL ini d G l C pc 3 (zo_pI 4 0) := so_pIF 4 0 (T := zT4) rfl zI4 zF4_ok zN4 rfl (by decide) (by decide) rfl rfl rfl rfl h hd hini hown
theorem xpF_9_0 {idx : Nat} (hini : ini = true) (hown : "QuotaPeers$Peer" = own) (h : Cond.fieldLink own idx "QuotaPeers$Peer" "number" "I" ∈ lw_all) (hd : decode cc pc = .ok (.putfield idx, 3)) : z_SO own cc nL ini d G l C pc 3 (zo_pI 9 0) := so_pIF 9 0 (T := zT9) rfl zI9 zF9_ok zN9 rfl (by decide) (by decide) rfl rfl rfl rfl h hd hini hown
theorem xpN_2_1 {idx : Nat} {host : String} (h : Cond.fieldLinkNest own idx "QuotaPeers$Page" "size" "I" host ∈ lw_tbl) (hd : decode cc pc = .ok (.putfield idx, 3)) : z_SO own cc nL ini d G l C pc 3 (zo_pI 2 1) := so_pIN 2 1 (T := zT2) rfl zI2 zF2_ok zN2 rfl (by decide) (by decide) rfl rfl rfl rfl h hd
theorem xpN_4_1 {idx : Nat} {host : String} (h : Cond.fieldLinkNest own idx "QuotaPeers$Link" "state" "I" host ∈ lw_tbl) (hd : decode cc pc = .ok (.putfield idx, 3)) : z_SO own cc nL ini d G l C pc 3 (zo_pI 4 1) := so_pIN 4 1 (T := zT4) rfl zI4 zF4_ok zN4 rfl (by decide) (by decide) rfl rfl rfl rfl h hd
theorem xpN_4_5 {idx : Nat} {host : String} (h : Cond.fieldLinkNest own idx "QuotaPeers$Link" "came" "I" host ∈ lw_tbl) (hd : decode cc pc = .ok (.putfield idx, 3)) : z_SO own cc nL ini d G l C pc 3 (zo_pI 4 5) := so_pIN 4 5 (T := zT4) rfl zI4 zF4_ok zN4 rfl (by decide) (by decide) rfl rfl rfl rfl h hd
theorem xpN_5_6 {idx : Nat} {host : String} (h : Cond.fieldLinkNest own idx "QuotaPeers$Session" "peer" "I" host ∈ lw_tbl) (hd : decode cc pc = .ok (.putfield idx, 3)) : z_SO own cc nL ini d G l C pc 3 (zo_pI 5 6) := so_pIN 5 6 (T := zT5) rfl zI5 zF5_ok zN5 rfl (by decide) (by decide) rfl rfl rfl rfl h hd
theorem xpN_5_7 {idx : Nat} {host : String} (h : Cond.fieldLinkNest own idx "QuotaPeers$Session" "ends" "I" host ∈ lw_tbl) (hd : decode cc pc = .ok (.putfield idx, 3)) : z_SO own cc nL ini d G l C pc 3 (zo_pI 5 7) := so_pIN 5 7 (T := zT5) rfl zI5 zF5_ok zN5 rfl (by decide) (by decide) rfl rfl rfl rfl h hd
theorem xpN_6_5 {idx : Nat} {host : String} (h : Cond.fieldLinkNest own idx "QuotaPeers$Question" "sent" "I" host ∈ lw_tbl) (hd : decode cc pc = .ok (.putfield idx, 3)) : z_SO own cc nL ini d G l C pc 3 (zo_pI 6 5) := so_pIN 6 5 (T := zT6) rfl zI6 zF6_ok zN6 rfl (by decide) (by decide) rfl rfl rfl rfl h hd
theorem xpN_6_6 {idx : Nat} {host : String} (h : Cond.fieldLinkNest own idx "QuotaPeers$Question" "hop" "I" host ∈ lw_tbl) (hd : decode cc pc = .ok (.putfield idx, 3)) : z_SO own cc nL ini d G l C pc 3 (zo_pI 6 6) := so_pIN 6 6 (T := zT6) rfl zI6 zF6_ok zN6 rfl (by decide) (by decide) rfl rfl rfl rfl h hd
theorem xpN_6_7 {idx : Nat} {host : String} (h : Cond.fieldLinkNest own idx "QuotaPeers$Question" "end" "I" host ∈ lw_tbl) (hd : decode cc pc = .ok (.putfield idx, 3)) : z_SO own cc nL ini d G l C pc 3 (zo_pI 6 7) := so_pIN 6 7 (T := zT6) rfl zI6 zF6_ok zN6 rfl (by decide) (by decide) rfl rfl rfl rfl h hd
theorem xpN_7_1 {idx : Nat} {host : String} (h : Cond.fieldLinkNest own idx "QuotaPeers$Answer" "end" "I" host ∈ lw_tbl) (hd : decode cc pc = .ok (.putfield idx, 3)) : z_SO own cc nL ini d G l C pc 3 (zo_pI 7 1) := so_pIN 7 1 (T := zT7) rfl zI7 zF7_ok zN7 rfl (by decide) (by decide) rfl rfl rfl rfl h hd
theorem xpN_7_2 {idx : Nat} {host : String} (h : Cond.fieldLinkNest own idx "QuotaPeers$Answer" "time" "I" host ∈ lw_tbl) (hd : decode cc pc = .ok (.putfield idx, 3)) : z_SO own cc nL ini d G l C pc 3 (zo_pI 7 2) := so_pIN 7 2 (T := zT7) rfl zI7 zF7_ok zN7 rfl (by decide) (by decide) rfl rfl rfl rfl h hd
theorem xpN_7_4 {idx : Nat} {host : String} (h : Cond.fieldLinkNest own idx "QuotaPeers$Answer" "size" "I" host ∈ lw_tbl) (hd : decode cc pc = .ok (.putfield idx, 3)) : z_SO own cc nL ini d G l C pc 3 (zo_pI 7 4) := so_pIN 7 4 (T := zT7) rfl zI7 zF7_ok zN7 rfl (by decide) (by decide) rfl rfl rfl rfl h hd
theorem xpN_9_3 {idx : Nat} {host : String} (h : Cond.fieldLinkNest own idx "QuotaPeers$Peer" "state" "I" host ∈ lw_tbl) (hd : decode cc pc = .ok (.putfield idx, 3)) : z_SO own cc nL ini d G l C pc 3 (zo_pI 9 3) := so_pIN 9 3 (T := zT9) rfl zI9 zF9_ok zN9 rfl (by decide) (by decide) rfl rfl rfl rfl h hd
theorem xpN_9_4 {idx : Nat} {host : String} (h : Cond.fieldLinkNest own idx "QuotaPeers$Peer" "limit" "I" host ∈ lw_tbl) (hd : decode cc pc = .ok (.putfield idx, 3)) : z_SO own cc nL ini d G l C pc 3 (zo_pI 9 4) := so_pIN 9 4 (T := zT9) rfl zI9 zF9_ok zN9 rfl (by decide) (by decide) rfl rfl rfl rfl h hd
theorem xpN_9_7 {idx : Nat} {host : String} (h : Cond.fieldLinkNest own idx "QuotaPeers$Peer" "cameFlags" "I" host ∈ lw_tbl) (hd : decode cc pc = .ok (.putfield idx, 3)) : z_SO own cc nL ini d G l C pc 3 (zo_pI 9 7) := so_pIN 9 7 (T := zT9) rfl zI9 zF9_ok zN9 rfl (by decide) (by decide) rfl rfl rfl rfl h hd
theorem xpN_9_8 {idx : Nat} {host : String} (h : Cond.fieldLinkNest own idx "QuotaPeers$Peer" "cameHop" "I" host ∈ lw_tbl) (hd : decode cc pc = .ok (.putfield idx, 3)) : z_SO own cc nL ini d G l C pc 3 (zo_pI 9 8) := so_pIN 9 8 (T := zT9) rfl zI9 zF9_ok zN9 rfl (by decide) (by decide) rfl rfl rfl rfl h hd
theorem xpN_9_9 {idx : Nat} {host : String} (h : Cond.fieldLinkNest own idx "QuotaPeers$Peer" "cameEnd" "I" host ∈ lw_tbl) (hd : decode cc pc = .ok (.putfield idx, 3)) : z_SO own cc nL ini d G l C pc 3 (zo_pI 9 9) := so_pIN 9 9 (T := zT9) rfl zI9 zF9_ok zN9 rfl (by decide) (by decide) rfl rfl rfl rfl h hd
theorem xpN_9_10 {idx : Nat} {host : String} (h : Cond.fieldLinkNest own idx "QuotaPeers$Peer" "status" "I" host ∈ lw_tbl) (hd : decode cc pc = .ok (.putfield idx, 3)) : z_SO own cc nL ini d G l C pc 3 (zo_pI 9 10) := so_pIN 9 10 (T := zT9) rfl zI9 zF9_ok zN9 rfl (by decide) (by decide) rfl rfl rfl rfl h hd
theorem xpN_9_12 {idx : Nat} {host : String} (h : Cond.fieldLinkNest own idx "QuotaPeers$Peer" "due" "I" host ∈ lw_tbl) (hd : decode cc pc = .ok (.putfield idx, 3)) : z_SO own cc nL ini d G l C pc 3 (zo_pI 9 12) := so_pIN 9 12 (T := zT9) rfl zI9 zF9_ok zN9 rfl (by decide) (by decide) rfl rfl rfl rfl h hd
theorem xpN_9_13 {idx : Nat} {host : String} (h : Cond.fieldLinkNest own idx "QuotaPeers$Peer" "overs" "I" host ∈ lw_tbl) (hd : decode cc pc = .ok (.putfield idx, 3)) : z_SO own cc nL ini d G l C pc 3 (zo_pI 9 13) := so_pIN 9 13 (T := zT9) rfl zI9 zF9_ok zN9 rfl (by decide) (by decide) rfl rfl rfl rfl h hd
theorem xpN_9_14 {idx : Nat} {host : String} (h : Cond.fieldLinkNest own idx "QuotaPeers$Peer" "answers" "I" host ∈ lw_tbl) (hd : decode cc pc = .ok (.putfield idx, 3)) : z_SO own cc nL ini d G l C pc 3 (zo_pI 9 14) := so_pIN 9 14 (T := zT9) rfl zI9 zF9_ok zN9 rfl (by decide) (by decide) rfl rfl rfl rfl h hd
theorem xpN_9_15 {idx : Nat} {host : String} (h : Cond.fieldLinkNest own idx "QuotaPeers$Peer" "openingHop" "I" host ∈ lw_tbl) (hd : decode cc pc = .ok (.putfield idx, 3)) : z_SO own cc nL ini d G l C pc 3 (zo_pI 9 15) := so_pIN 9 15 (T := zT9) rfl zI9 zF9_ok zN9 rfl (by decide) (by decide) rfl rfl rfl rfl h hd
theorem xpN_9_16 {idx : Nat} {host : String} (h : Cond.fieldLinkNest own idx "QuotaPeers$Peer" "watchHop" "I" host ∈ lw_tbl) (hd : decode cc pc = .ok (.putfield idx, 3)) : z_SO own cc nL ini d G l C pc 3 (zo_pI 9 16) := so_pIN 9 16 (T := zT9) rfl zI9 zF9_ok zN9 rfl (by decide) (by decide) rfl rfl rfl rfl h hd
theorem xpN_9_17 {idx : Nat} {host : String} (h : Cond.fieldLinkNest own idx "QuotaPeers$Peer" "endingHop" "I" host ∈ lw_tbl) (hd : decode cc pc = .ok (.putfield idx, 3)) : z_SO own cc nL ini d G l C pc 3 (zo_pI 9 17) := so_pIN 9 17 (T := zT9) rfl zI9 zF9_ok zN9 rfl (by decide) (by decide) rfl rfl rfl rfl h hd
theorem xp_5_4 {idx : Nat} (h : Cond.fieldLink own idx "QuotaPeers$Session" "grant" "J" ∈ lw_all) (hd : decode cc pc = .ok (.putfield idx, 3)) : z_SO own cc nL ini d G l C pc 3 (zo_pJ 5 4) := so_pJ 5 4 (T := zT5) rfl zI5 zF5_ok zN5 rfl (by decide) (by decide) rfl rfl rfl rfl h hd
theorem xp_8_90 {idx : Nat} (h : Cond.fieldLink own idx "QuotaPeersModel" "told" "J" ∈ lw_all) (hd : decode cc pc = .ok (.putfield idx, 3)) : z_SO own cc nL ini d G l C pc 3 (zo_pJ 8 90) := so_pJ 8 90 (T := zT8) rfl zI8 zF8_ok zN8 rfl (by decide) (by decide) rfl rfl rfl rfl h hd
theorem xp_10_1 {idx : Nat} (h : Cond.fieldLink own idx "QuotaPeers$Account" "balance" "J" ∈ lw_all) (hd : decode cc pc = .ok (.putfield idx, 3)) : z_SO own cc nL ini d G l C pc 3 (zo_pJ 10 1) := so_pJ 10 1 (T := zT10) rfl zI10 zF10_ok zN10 rfl (by decide) (by decide) rfl rfl rfl rfl h hd
theorem xp_10_3 {idx : Nat} (h : Cond.fieldLink own idx "QuotaPeers$Account" "charged" "J" ∈ lw_all) (hd : decode cc pc = .ok (.putfield idx, 3)) : z_SO own cc nL ini d G l C pc 3 (zo_pJ 10 3) := so_pJ 10 3 (T := zT10) rfl zI10 zF10_ok zN10 rfl (by decide) (by decide) rfl rfl rfl rfl h hd
theorem xpF_10_0 {idx : Nat} (hini : ini = true) (hown : "QuotaPeers$Account" = own) (h : Cond.fieldLink own idx "QuotaPeers$Account" "number" "J" ∈ lw_all) (hd : decode cc pc = .ok (.putfield idx, 3)) : z_SO own cc nL ini d G l C pc 3 (zo_pJ 10 0) := so_pJF 10 0 (T := zT10) rfl zI10 zF10_ok zN10 rfl (by decide) (by decide) rfl rfl rfl rfl h hd hini hown
theorem xpN_5_4 {idx : Nat} {host : String} (h : Cond.fieldLinkNest own idx "QuotaPeers$Session" "grant" "J" host ∈ lw_tbl) (hd : decode cc pc = .ok (.putfield idx, 3)) : z_SO own cc nL ini d G l C pc 3 (zo_pJ 5 4) := so_pJN 5 4 (T := zT5) rfl zI5 zF5_ok zN5 rfl (by decide) (by decide) rfl rfl rfl rfl h hd
theorem xpN_5_5 {idx : Nat} {host : String} (h : Cond.fieldLinkNest own idx "QuotaPeers$Session" "count" "J" host ∈ lw_tbl) (hd : decode cc pc = .ok (.putfield idx, 3)) : z_SO own cc nL ini d G l C pc 3 (zo_pJ 5 5) := so_pJN 5 5 (T := zT5) rfl zI5 zF5_ok zN5 rfl (by decide) (by decide) rfl rfl rfl rfl h hd
theorem xpN_6_3 {idx : Nat} {host : String} (h : Cond.fieldLinkNest own idx "QuotaPeers$Question" "result" "J" host ∈ lw_tbl) (hd : decode cc pc = .ok (.putfield idx, 3)) : z_SO own cc nL ini d G l C pc 3 (zo_pJ 6 3) := so_pJN 6 3 (T := zT6) rfl zI6 zF6_ok zN6 rfl (by decide) (by decide) rfl rfl rfl rfl h hd
theorem xpN_10_2 {idx : Nat} {host : String} (h : Cond.fieldLinkNest own idx "QuotaPeers$Account" "reserved" "J" host ∈ lw_tbl) (hd : decode cc pc = .ok (.putfield idx, 3)) : z_SO own cc nL ini d G l C pc 3 (zo_pJ 10 2) := so_pJN 10 2 (T := zT10) rfl zI10 zF10_ok zN10 rfl (by decide) (by decide) rfl rfl rfl rfl h hd
theorem xp_0_20 {idx : Nat} (h : Cond.fieldLink own idx "QuotaPeers" "granted" "LQuotaPeers$Session;" ∈ lw_all) (hd : decode cc pc = .ok (.putfield idx, 3)) : z_SO own cc nL ini d G l C pc 3 (zo_pR 0 20) := so_pR 0 20 (T := zT0) rfl zI0 zF0_ok zN0 rfl (by decide) (by decide) rfl rfl rfl rfl h hd
theorem xp_3_1 {idx : Nat} (h : Cond.fieldLink own idx "QuotaPeers$Message" "cells" "[B" ∈ lw_all) (hd : decode cc pc = .ok (.putfield idx, 3)) : z_SO own cc nL ini d G l C pc 3 (zo_pR 3 1) := so_pR 3 1 (T := zT3) rfl zI3 zF3_ok zN3 rfl (by decide) (by decide) rfl rfl rfl rfl h hd
theorem xp_4_2 {idx : Nat} (h : Cond.fieldLink own idx "QuotaPeers$Link" "owner" "LQuotaPeers$Peer;" ∈ lw_all) (hd : decode cc pc = .ok (.putfield idx, 3)) : z_SO own cc nL ini d G l C pc 3 (zo_pR 4 2) := so_pR 4 2 (T := zT4) rfl zI4 zF4_ok zN4 rfl (by decide) (by decide) rfl rfl rfl rfl h hd
theorem xpF_0_0 {idx : Nat} (hini : ini = true) (hown : "QuotaPeers" = own) (h : Cond.fieldLink own idx "QuotaPeers" "at" "LQuotaPeers$Text;" ∈ lw_all) (hd : decode cc pc = .ok (.putfield idx, 3)) : z_SO own cc nL ini d G l C pc 3 (zo_pR 0 0) := so_pRF 0 0 (T := zT0) rfl zI0 zF0_ok zN0 rfl (by decide) (by decide) rfl rfl rfl rfl h hd hini hown
theorem xpF_0_1 {idx : Nat} (hini : ini = true) (hown : "QuotaPeers" = own) (h : Cond.fieldLink own idx "QuotaPeers" "host" "LQuotaPeers$Text;" ∈ lw_all) (hd : decode cc pc = .ok (.putfield idx, 3)) : z_SO own cc nL ini d G l C pc 3 (zo_pR 0 1) := so_pRF 0 1 (T := zT0) rfl zI0 zF0_ok zN0 rfl (by decide) (by decide) rfl rfl rfl rfl h hd hini hown
theorem xpF_0_2 {idx : Nat} (hini : ini = true) (hown : "QuotaPeers" = own) (h : Cond.fieldLink own idx "QuotaPeers" "realm" "LQuotaPeers$Text;" ∈ lw_all) (hd : decode cc pc = .ok (.putfield idx, 3)) : z_SO own cc nL ini d G l C pc 3 (zo_pR 0 2) := so_pRF 0 2 (T := zT0) rfl zI0 zF0_ok zN0 rfl (by decide) (by decide) rfl rfl rfl rfl h hd hini hown
theorem xpF_0_3 {idx : Nat} (hini : ini = true) (hown : "QuotaPeers" = own) (h : Cond.fieldLink own idx "QuotaPeers" "product" "LQuotaPeers$Text;" ∈ lw_all) (hd : decode cc pc = .ok (.putfield idx, 3)) : z_SO own cc nL ini d G l C pc 3 (zo_pR 0 3) := so_pRF 0 3 (T := zT0) rfl zI0 zF0_ok zN0 rfl (by decide) (by decide) rfl rfl rfl rfl h hd hini hown
theorem xpF_0_4 {idx : Nat} (hini : ini = true) (hown : "QuotaPeers" = own) (h : Cond.fieldLink own idx "QuotaPeers" "page" "LQuotaPeers$Page;" ∈ lw_all) (hd : decode cc pc = .ok (.putfield idx, 3)) : z_SO own cc nL ini d G l C pc 3 (zo_pR 0 4) := so_pRF 0 4 (T := zT0) rfl zI0 zF0_ok zN0 rfl (by decide) (by decide) rfl rfl rfl rfl h hd hini hown
theorem xpF_0_5 {idx : Nat} (hini : ini = true) (hown : "QuotaPeers" = own) (h : Cond.fieldLink own idx "QuotaPeers" "message" "LQuotaPeers$Message;" ∈ lw_all) (hd : decode cc pc = .ok (.putfield idx, 3)) : z_SO own cc nL ini d G l C pc 3 (zo_pR 0 5) := so_pRF 0 5 (T := zT0) rfl zI0 zF0_ok zN0 rfl (by decide) (by decide) rfl rfl rfl rfl h hd hini hown
theorem xpF_0_6 {idx : Nat} (hini : ini = true) (hown : "QuotaPeers" = own) (h : Cond.fieldLink own idx "QuotaPeers" "links" "[LQuotaPeers$Link;" ∈ lw_all) (hd : decode cc pc = .ok (.putfield idx, 3)) : z_SO own cc nL ini d G l C pc 3 (zo_pR 0 6) := so_pRF 0 6 (T := zT0) rfl zI0 zF0_ok zN0 rfl (by decide) (by decide) rfl rfl rfl rfl h hd hini hown
theorem xpF_0_7 {idx : Nat} (hini : ini = true) (hown : "QuotaPeers" = own) (h : Cond.fieldLink own idx "QuotaPeers" "peers" "[LQuotaPeers$Peer;" ∈ lw_all) (hd : decode cc pc = .ok (.putfield idx, 3)) : z_SO own cc nL ini d G l C pc 3 (zo_pR 0 7) := so_pRF 0 7 (T := zT0) rfl zI0 zF0_ok zN0 rfl (by decide) (by decide) rfl rfl rfl rfl h hd hini hown
theorem xpF_0_9 {idx : Nat} (hini : ini = true) (hown : "QuotaPeers" = own) (h : Cond.fieldLink own idx "QuotaPeers" "accounts" "[LQuotaPeers$Account;" ∈ lw_all) (hd : decode cc pc = .ok (.putfield idx, 3)) : z_SO own cc nL ini d G l C pc 3 (zo_pR 0 9) := so_pRF 0 9 (T := zT0) rfl zI0 zF0_ok zN0 rfl (by decide) (by decide) rfl rfl rfl rfl h hd hini hown
theorem xpF_0_11 {idx : Nat} (hini : ini = true) (hown : "QuotaPeers" = own) (h : Cond.fieldLink own idx "QuotaPeers" "sessions" "[LQuotaPeers$Session;" ∈ lw_all) (hd : decode cc pc = .ok (.putfield idx, 3)) : z_SO own cc nL ini d G l C pc 3 (zo_pR 0 11) := so_pRF 0 11 (T := zT0) rfl zI0 zF0_ok zN0 rfl (by decide) (by decide) rfl rfl rfl rfl h hd hini hown
theorem xpF_0_13 {idx : Nat} (hini : ini = true) (hown : "QuotaPeers" = own) (h : Cond.fieldLink own idx "QuotaPeers" "asks" "[LQuotaPeers$Question;" ∈ lw_all) (hd : decode cc pc = .ok (.putfield idx, 3)) : z_SO own cc nL ini d G l C pc 3 (zo_pR 0 13) := so_pRF 0 13 (T := zT0) rfl zI0 zF0_ok zN0 rfl (by decide) (by decide) rfl rfl rfl rfl h hd hini hown
theorem xpF_0_15 {idx : Nat} (hini : ini = true) (hown : "QuotaPeers" = own) (h : Cond.fieldLink own idx "QuotaPeers" "keeps" "[LQuotaPeers$Answer;" ∈ lw_all) (hd : decode cc pc = .ok (.putfield idx, 3)) : z_SO own cc nL ini d G l C pc 3 (zo_pR 0 15) := so_pRF 0 15 (T := zT0) rfl zI0 zF0_ok zN0 rfl (by decide) (by decide) rfl rfl rfl rfl h hd hini hown
theorem xpF_1_0 {idx : Nat} (hini : ini = true) (hown : "QuotaPeers$Text" = own) (h : Cond.fieldLink own idx "QuotaPeers$Text" "cells" "[B" ∈ lw_all) (hd : decode cc pc = .ok (.putfield idx, 3)) : z_SO own cc nL ini d G l C pc 3 (zo_pR 1 0) := so_pRF 1 0 (T := zT1) rfl zI1 zF1_ok zN1 rfl (by decide) (by decide) rfl rfl rfl rfl h hd hini hown
theorem xpF_2_0 {idx : Nat} (hini : ini = true) (hown : "QuotaPeers$Page" = own) (h : Cond.fieldLink own idx "QuotaPeers$Page" "cells" "[B" ∈ lw_all) (hd : decode cc pc = .ok (.putfield idx, 3)) : z_SO own cc nL ini d G l C pc 3 (zo_pR 2 0) := so_pRF 2 0 (T := zT2) rfl zI2 zF2_ok zN2 rfl (by decide) (by decide) rfl rfl rfl rfl h hd hini hown
theorem xpF_3_0 {idx : Nat} (hini : ini = true) (hown : "QuotaPeers$Message" = own) (h : Cond.fieldLink own idx "QuotaPeers$Message" "commands" "[LQuotaPeers$Command;" ∈ lw_all) (hd : decode cc pc = .ok (.putfield idx, 3)) : z_SO own cc nL ini d G l C pc 3 (zo_pR 3 0) := so_pRF 3 0 (T := zT3) rfl zI3 zF3_ok zN3 rfl (by decide) (by decide) rfl rfl rfl rfl h hd hini hown
theorem xpF_3_8 {idx : Nat} (hini : ini = true) (hown : "QuotaPeers$Message" = own) (h : Cond.fieldLink own idx "QuotaPeers$Message" "codes" "[I" ∈ lw_all) (hd : decode cc pc = .ok (.putfield idx, 3)) : z_SO own cc nL ini d G l C pc 3 (zo_pR 3 8) := so_pRF 3 8 (T := zT3) rfl zI3 zF3_ok zN3 rfl (by decide) (by decide) rfl rfl rfl rfl h hd hini hown
theorem xpF_3_9 {idx : Nat} (hini : ini = true) (hown : "QuotaPeers$Message" = own) (h : Cond.fieldLink own idx "QuotaPeers$Message" "froms" "[I" ∈ lw_all) (hd : decode cc pc = .ok (.putfield idx, 3)) : z_SO own cc nL ini d G l C pc 3 (zo_pR 3 9) := so_pRF 3 9 (T := zT3) rfl zI3 zF3_ok zN3 rfl (by decide) (by decide) rfl rfl rfl rfl h hd hini hown
theorem xpF_3_10 {idx : Nat} (hini : ini = true) (hown : "QuotaPeers$Message" = own) (h : Cond.fieldLink own idx "QuotaPeers$Message" "sizes" "[I" ∈ lw_all) (hd : decode cc pc = .ok (.putfield idx, 3)) : z_SO own cc nL ini d G l C pc 3 (zo_pR 3 10) := so_pRF 3 10 (T := zT3) rfl zI3 zF3_ok zN3 rfl (by decide) (by decide) rfl rfl rfl rfl h hd hini hown
theorem xpF_4_4 {idx : Nat} (hini : ini = true) (hown : "QuotaPeers$Link" = own) (h : Cond.fieldLink own idx "QuotaPeers$Link" "in" "[B" ∈ lw_all) (hd : decode cc pc = .ok (.putfield idx, 3)) : z_SO own cc nL ini d G l C pc 3 (zo_pR 4 4) := so_pRF 4 4 (T := zT4) rfl zI4 zF4_ok zN4 rfl (by decide) (by decide) rfl rfl rfl rfl h hd hini hown
theorem xpF_4_6 {idx : Nat} (hini : ini = true) (hown : "QuotaPeers$Link" = own) (h : Cond.fieldLink own idx "QuotaPeers$Link" "queue" "[B" ∈ lw_all) (hd : decode cc pc = .ok (.putfield idx, 3)) : z_SO own cc nL ini d G l C pc 3 (zo_pR 4 6) := so_pRF 4 6 (T := zT4) rfl zI4 zF4_ok zN4 rfl (by decide) (by decide) rfl rfl rfl rfl h hd hini hown
theorem xpF_5_0 {idx : Nat} (hini : ini = true) (hown : "QuotaPeers$Session" = own) (h : Cond.fieldLink own idx "QuotaPeers$Session" "name" "LQuotaPeers$Text;" ∈ lw_all) (hd : decode cc pc = .ok (.putfield idx, 3)) : z_SO own cc nL ini d G l C pc 3 (zo_pR 5 0) := so_pRF 5 0 (T := zT5) rfl zI5 zF5_ok zN5 rfl (by decide) (by decide) rfl rfl rfl rfl h hd hini hown
theorem xpF_5_1 {idx : Nat} (hini : ini = true) (hown : "QuotaPeers$Session" = own) (h : Cond.fieldLink own idx "QuotaPeers$Session" "host" "LQuotaPeers$Text;" ∈ lw_all) (hd : decode cc pc = .ok (.putfield idx, 3)) : z_SO own cc nL ini d G l C pc 3 (zo_pR 5 1) := so_pRF 5 1 (T := zT5) rfl zI5 zF5_ok zN5 rfl (by decide) (by decide) rfl rfl rfl rfl h hd hini hown
theorem xpF_5_2 {idx : Nat} (hini : ini = true) (hown : "QuotaPeers$Session" = own) (h : Cond.fieldLink own idx "QuotaPeers$Session" "realm" "LQuotaPeers$Text;" ∈ lw_all) (hd : decode cc pc = .ok (.putfield idx, 3)) : z_SO own cc nL ini d G l C pc 3 (zo_pR 5 2) := so_pRF 5 2 (T := zT5) rfl zI5 zF5_ok zN5 rfl (by decide) (by decide) rfl rfl rfl rfl h hd hini hown
theorem xpF_6_0 {idx : Nat} (hini : ini = true) (hown : "QuotaPeers$Question" = own) (h : Cond.fieldLink own idx "QuotaPeers$Question" "session" "LQuotaPeers$Text;" ∈ lw_all) (hd : decode cc pc = .ok (.putfield idx, 3)) : z_SO own cc nL ini d G l C pc 3 (zo_pR 6 0) := so_pRF 6 0 (T := zT6) rfl zI6 zF6_ok zN6 rfl (by decide) (by decide) rfl rfl rfl rfl h hd hini hown
theorem xpF_6_1 {idx : Nat} (hini : ini = true) (hown : "QuotaPeers$Question" = own) (h : Cond.fieldLink own idx "QuotaPeers$Question" "host" "LQuotaPeers$Text;" ∈ lw_all) (hd : decode cc pc = .ok (.putfield idx, 3)) : z_SO own cc nL ini d G l C pc 3 (zo_pR 6 1) := so_pRF 6 1 (T := zT6) rfl zI6 zF6_ok zN6 rfl (by decide) (by decide) rfl rfl rfl rfl h hd hini hown
theorem xpF_6_2 {idx : Nat} (hini : ini = true) (hown : "QuotaPeers$Question" = own) (h : Cond.fieldLink own idx "QuotaPeers$Question" "realm" "LQuotaPeers$Text;" ∈ lw_all) (hd : decode cc pc = .ok (.putfield idx, 3)) : z_SO own cc nL ini d G l C pc 3 (zo_pR 6 2) := so_pRF 6 2 (T := zT6) rfl zI6 zF6_ok zN6 rfl (by decide) (by decide) rfl rfl rfl rfl h hd hini hown
theorem xpF_7_0 {idx : Nat} (hini : ini = true) (hown : "QuotaPeers$Answer" = own) (h : Cond.fieldLink own idx "QuotaPeers$Answer" "host" "LQuotaPeers$Text;" ∈ lw_all) (hd : decode cc pc = .ok (.putfield idx, 3)) : z_SO own cc nL ini d G l C pc 3 (zo_pR 7 0) := so_pRF 7 0 (T := zT7) rfl zI7 zF7_ok zN7 rfl (by decide) (by decide) rfl rfl rfl rfl h hd hini hown
theorem xpF_7_3 {idx : Nat} (hini : ini = true) (hown : "QuotaPeers$Answer" = own) (h : Cond.fieldLink own idx "QuotaPeers$Answer" "cells" "[B" ∈ lw_all) (hd : decode cc pc = .ok (.putfield idx, 3)) : z_SO own cc nL ini d G l C pc 3 (zo_pR 7 3) := so_pRF 7 3 (T := zT7) rfl zI7 zF7_ok zN7 rfl (by decide) (by decide) rfl rfl rfl rfl h hd hini hown
theorem xpF_8_3 {idx : Nat} (hini : ini = true) (hown : "QuotaPeersModel" = own) (h : Cond.fieldLink own idx "QuotaPeersModel" "sign" "[B" ∈ lw_all) (hd : decode cc pc = .ok (.putfield idx, 3)) : z_SO own cc nL ini d G l C pc 3 (zo_pR 8 3) := so_pRF 8 3 (T := zT8) rfl zI8 zF8_ok zN8 rfl (by decide) (by decide) rfl rfl rfl rfl h hd hini hown
theorem xpF_8_5 {idx : Nat} (hini : ini = true) (hown : "QuotaPeersModel" = own) (h : Cond.fieldLink own idx "QuotaPeersModel" "host" "[B" ∈ lw_all) (hd : decode cc pc = .ok (.putfield idx, 3)) : z_SO own cc nL ini d G l C pc 3 (zo_pR 8 5) := so_pRF 8 5 (T := zT8) rfl zI8 zF8_ok zN8 rfl (by decide) (by decide) rfl rfl rfl rfl h hd hini hown
theorem xpF_8_8 {idx : Nat} (hini : ini = true) (hown : "QuotaPeersModel" = own) (h : Cond.fieldLink own idx "QuotaPeersModel" "peerName" "[B" ∈ lw_all) (hd : decode cc pc = .ok (.putfield idx, 3)) : z_SO own cc nL ini d G l C pc 3 (zo_pR 8 8) := so_pRF 8 8 (T := zT8) rfl zI8 zF8_ok zN8 rfl (by decide) (by decide) rfl rfl rfl rfl h hd hini hown
theorem xpF_8_9 {idx : Nat} (hini : ini = true) (hown : "QuotaPeersModel" = own) (h : Cond.fieldLink own idx "QuotaPeersModel" "peerSize" "[I" ∈ lw_all) (hd : decode cc pc = .ok (.putfield idx, 3)) : z_SO own cc nL ini d G l C pc 3 (zo_pR 8 9) := so_pRF 8 9 (T := zT8) rfl zI8 zF8_ok zN8 rfl (by decide) (by decide) rfl rfl rfl rfl h hd hini hown
theorem xpF_8_10 {idx : Nat} (hini : ini = true) (hown : "QuotaPeersModel" = own) (h : Cond.fieldLink own idx "QuotaPeersModel" "starts" "[Z" ∈ lw_all) (hd : decode cc pc = .ok (.putfield idx, 3)) : z_SO own cc nL ini d G l C pc 3 (zo_pR 8 10) := so_pRF 8 10 (T := zT8) rfl zI8 zF8_ok zN8 rfl (by decide) (by decide) rfl rfl rfl rfl h hd hini hown
theorem xpF_8_11 {idx : Nat} (hini : ini = true) (hown : "QuotaPeersModel" = own) (h : Cond.fieldLink own idx "QuotaPeersModel" "state" "[I" ∈ lw_all) (hd : decode cc pc = .ok (.putfield idx, 3)) : z_SO own cc nL ini d G l C pc 3 (zo_pR 8 11) := so_pRF 8 11 (T := zT8) rfl zI8 zF8_ok zN8 rfl (by decide) (by decide) rfl rfl rfl rfl h hd hini hown
theorem xpF_8_12 {idx : Nat} (hini : ini = true) (hown : "QuotaPeersModel" = own) (h : Cond.fieldLink own idx "QuotaPeersModel" "deadline" "[I" ∈ lw_all) (hd : decode cc pc = .ok (.putfield idx, 3)) : z_SO own cc nL ini d G l C pc 3 (zo_pR 8 12) := so_pRF 8 12 (T := zT8) rfl zI8 zF8_ok zN8 rfl (by decide) (by decide) rfl rfl rfl rfl h hd hini hown
theorem xpF_8_13 {idx : Nat} (hini : ini = true) (hown : "QuotaPeersModel" = own) (h : Cond.fieldLink own idx "QuotaPeersModel" "own" "[I" ∈ lw_all) (hd : decode cc pc = .ok (.putfield idx, 3)) : z_SO own cc nL ini d G l C pc 3 (zo_pR 8 13) := so_pRF 8 13 (T := zT8) rfl zI8 zF8_ok zN8 rfl (by decide) (by decide) rfl rfl rfl rfl h hd hini hown
theorem xpF_8_14 {idx : Nat} (hini : ini = true) (hown : "QuotaPeersModel" = own) (h : Cond.fieldLink own idx "QuotaPeersModel" "came" "[I" ∈ lw_all) (hd : decode cc pc = .ok (.putfield idx, 3)) : z_SO own cc nL ini d G l C pc 3 (zo_pR 8 14) := so_pRF 8 14 (T := zT8) rfl zI8 zF8_ok zN8 rfl (by decide) (by decide) rfl rfl rfl rfl h hd hini hown
theorem xpF_8_15 {idx : Nat} (hini : ini = true) (hown : "QuotaPeersModel" = own) (h : Cond.fieldLink own idx "QuotaPeersModel" "status" "[I" ∈ lw_all) (hd : decode cc pc = .ok (.putfield idx, 3)) : z_SO own cc nL ini d G l C pc 3 (zo_pR 8 15) := so_pRF 8 15 (T := zT8) rfl zI8 zF8_ok zN8 rfl (by decide) (by decide) rfl rfl rfl rfl h hd hini hown
theorem xpF_8_16 {idx : Nat} (hini : ini = true) (hown : "QuotaPeersModel" = own) (h : Cond.fieldLink own idx "QuotaPeersModel" "awaited" "[Z" ∈ lw_all) (hd : decode cc pc = .ok (.putfield idx, 3)) : z_SO own cc nL ini d G l C pc 3 (zo_pR 8 16) := so_pRF 8 16 (T := zT8) rfl zI8 zF8_ok zN8 rfl (by decide) (by decide) rfl rfl rfl rfl h hd hini hown
theorem xpF_8_17 {idx : Nat} (hini : ini = true) (hown : "QuotaPeersModel" = own) (h : Cond.fieldLink own idx "QuotaPeersModel" "timer" "[I" ∈ lw_all) (hd : decode cc pc = .ok (.putfield idx, 3)) : z_SO own cc nL ini d G l C pc 3 (zo_pR 8 17) := so_pRF 8 17 (T := zT8) rfl zI8 zF8_ok zN8 rfl (by decide) (by decide) rfl rfl rfl rfl h hd hini hown
theorem xpF_8_18 {idx : Nat} (hini : ini = true) (hown : "QuotaPeersModel" = own) (h : Cond.fieldLink own idx "QuotaPeersModel" "given" "[I" ∈ lw_all) (hd : decode cc pc = .ok (.putfield idx, 3)) : z_SO own cc nL ini d G l C pc 3 (zo_pR 8 18) := so_pRF 8 18 (T := zT8) rfl zI8 zF8_ok zN8 rfl (by decide) (by decide) rfl rfl rfl rfl h hd hini hown
theorem xpF_8_19 {idx : Nat} (hini : ini = true) (hown : "QuotaPeersModel" = own) (h : Cond.fieldLink own idx "QuotaPeersModel" "back" "[I" ∈ lw_all) (hd : decode cc pc = .ok (.putfield idx, 3)) : z_SO own cc nL ini d G l C pc 3 (zo_pR 8 19) := so_pRF 8 19 (T := zT8) rfl zI8 zF8_ok zN8 rfl (by decide) (by decide) rfl rfl rfl rfl h hd hini hown
theorem xpF_8_20 {idx : Nat} (hini : ini = true) (hown : "QuotaPeersModel" = own) (h : Cond.fieldLink own idx "QuotaPeersModel" "openHop" "[I" ∈ lw_all) (hd : decode cc pc = .ok (.putfield idx, 3)) : z_SO own cc nL ini d G l C pc 3 (zo_pR 8 20) := so_pRF 8 20 (T := zT8) rfl zI8 zF8_ok zN8 rfl (by decide) (by decide) rfl rfl rfl rfl h hd hini hown
theorem xpF_8_21 {idx : Nat} (hini : ini = true) (hown : "QuotaPeersModel" = own) (h : Cond.fieldLink own idx "QuotaPeersModel" "watchHop" "[I" ∈ lw_all) (hd : decode cc pc = .ok (.putfield idx, 3)) : z_SO own cc nL ini d G l C pc 3 (zo_pR 8 21) := so_pRF 8 21 (T := zT8) rfl zI8 zF8_ok zN8 rfl (by decide) (by decide) rfl rfl rfl rfl h hd hini hown
theorem xpF_8_22 {idx : Nat} (hini : ini = true) (hown : "QuotaPeersModel" = own) (h : Cond.fieldLink own idx "QuotaPeersModel" "endHop" "[I" ∈ lw_all) (hd : decode cc pc = .ok (.putfield idx, 3)) : z_SO own cc nL ini d G l C pc 3 (zo_pR 8 22) := so_pRF 8 22 (T := zT8) rfl zI8 zF8_ok zN8 rfl (by decide) (by decide) rfl rfl rfl rfl h hd hini hown
theorem xpF_8_23 {idx : Nat} (hini : ini = true) (hown : "QuotaPeersModel" = own) (h : Cond.fieldLink own idx "QuotaPeersModel" "cameFlags" "[I" ∈ lw_all) (hd : decode cc pc = .ok (.putfield idx, 3)) : z_SO own cc nL ini d G l C pc 3 (zo_pR 8 23) := so_pRF 8 23 (T := zT8) rfl zI8 zF8_ok zN8 rfl (by decide) (by decide) rfl rfl rfl rfl h hd hini hown
theorem xpF_8_24 {idx : Nat} (hini : ini = true) (hown : "QuotaPeersModel" = own) (h : Cond.fieldLink own idx "QuotaPeersModel" "cameHop" "[I" ∈ lw_all) (hd : decode cc pc = .ok (.putfield idx, 3)) : z_SO own cc nL ini d G l C pc 3 (zo_pR 8 24) := so_pRF 8 24 (T := zT8) rfl zI8 zF8_ok zN8 rfl (by decide) (by decide) rfl rfl rfl rfl h hd hini hown
theorem xpF_8_25 {idx : Nat} (hini : ini = true) (hown : "QuotaPeersModel" = own) (h : Cond.fieldLink own idx "QuotaPeersModel" "cameEnd" "[I" ∈ lw_all) (hd : decode cc pc = .ok (.putfield idx, 3)) : z_SO own cc nL ini d G l C pc 3 (zo_pR 8 25) := so_pRF 8 25 (T := zT8) rfl zI8 zF8_ok zN8 rfl (by decide) (by decide) rfl rfl rfl rfl h hd hini hown
theorem xpF_8_26 {idx : Nat} (hini : ini = true) (hown : "QuotaPeersModel" = own) (h : Cond.fieldLink own idx "QuotaPeersModel" "cState" "[I" ∈ lw_all) (hd : decode cc pc = .ok (.putfield idx, 3)) : z_SO own cc nL ini d G l C pc 3 (zo_pR 8 26) := so_pRF 8 26 (T := zT8) rfl zI8 zF8_ok zN8 rfl (by decide) (by decide) rfl rfl rfl rfl h hd hini hown
theorem xpF_8_27 {idx : Nat} (hini : ini = true) (hown : "QuotaPeersModel" = own) (h : Cond.fieldLink own idx "QuotaPeersModel" "cPeer" "[I" ∈ lw_all) (hd : decode cc pc = .ok (.putfield idx, 3)) : z_SO own cc nL ini d G l C pc 3 (zo_pR 8 27) := so_pRF 8 27 (T := zT8) rfl zI8 zF8_ok zN8 rfl (by decide) (by decide) rfl rfl rfl rfl h hd hini hown
theorem xpF_8_28 {idx : Nat} (hini : ini = true) (hown : "QuotaPeersModel" = own) (h : Cond.fieldLink own idx "QuotaPeersModel" "cRole" "[I" ∈ lw_all) (hd : decode cc pc = .ok (.putfield idx, 3)) : z_SO own cc nL ini d G l C pc 3 (zo_pR 8 28) := so_pRF 8 28 (T := zT8) rfl zI8 zF8_ok zN8 rfl (by decide) (by decide) rfl rfl rfl rfl h hd hini hown
theorem xpF_8_29 {idx : Nat} (hini : ini = true) (hown : "QuotaPeersModel" = own) (h : Cond.fieldLink own idx "QuotaPeersModel" "in" "[B" ∈ lw_all) (hd : decode cc pc = .ok (.putfield idx, 3)) : z_SO own cc nL ini d G l C pc 3 (zo_pR 8 29) := so_pRF 8 29 (T := zT8) rfl zI8 zF8_ok zN8 rfl (by decide) (by decide) rfl rfl rfl rfl h hd hini hown
theorem xpF_8_30 {idx : Nat} (hini : ini = true) (hown : "QuotaPeersModel" = own) (h : Cond.fieldLink own idx "QuotaPeersModel" "inSize" "[I" ∈ lw_all) (hd : decode cc pc = .ok (.putfield idx, 3)) : z_SO own cc nL ini d G l C pc 3 (zo_pR 8 30) := so_pRF 8 30 (T := zT8) rfl zI8 zF8_ok zN8 rfl (by decide) (by decide) rfl rfl rfl rfl h hd hini hown
theorem xpF_8_31 {idx : Nat} (hini : ini = true) (hown : "QuotaPeersModel" = own) (h : Cond.fieldLink own idx "QuotaPeersModel" "out" "[B" ∈ lw_all) (hd : decode cc pc = .ok (.putfield idx, 3)) : z_SO own cc nL ini d G l C pc 3 (zo_pR 8 31) := so_pRF 8 31 (T := zT8) rfl zI8 zF8_ok zN8 rfl (by decide) (by decide) rfl rfl rfl rfl h hd hini hown
theorem xpF_8_32 {idx : Nat} (hini : ini = true) (hown : "QuotaPeersModel" = own) (h : Cond.fieldLink own idx "QuotaPeersModel" "outSize" "[I" ∈ lw_all) (hd : decode cc pc = .ok (.putfield idx, 3)) : z_SO own cc nL ini d G l C pc 3 (zo_pR 8 32) := so_pRF 8 32 (T := zT8) rfl zI8 zF8_ok zN8 rfl (by decide) (by decide) rfl rfl rfl rfl h hd hini hown
theorem xpF_8_33 {idx : Nat} (hini : ini = true) (hown : "QuotaPeersModel" = own) (h : Cond.fieldLink own idx "QuotaPeersModel" "outFrom" "[I" ∈ lw_all) (hd : decode cc pc = .ok (.putfield idx, 3)) : z_SO own cc nL ini d G l C pc 3 (zo_pR 8 33) := so_pRF 8 33 (T := zT8) rfl zI8 zF8_ok zN8 rfl (by decide) (by decide) rfl rfl rfl rfl h hd hini hown
theorem xpF_8_36 {idx : Nat} (hini : ini = true) (hown : "QuotaPeersModel" = own) (h : Cond.fieldLink own idx "QuotaPeersModel" "number" "[J" ∈ lw_all) (hd : decode cc pc = .ok (.putfield idx, 3)) : z_SO own cc nL ini d G l C pc 3 (zo_pR 8 36) := so_pRF 8 36 (T := zT8) rfl zI8 zF8_ok zN8 rfl (by decide) (by decide) rfl rfl rfl rfl h hd hini hown
theorem xpF_8_37 {idx : Nat} (hini : ini = true) (hown : "QuotaPeersModel" = own) (h : Cond.fieldLink own idx "QuotaPeersModel" "balance" "[J" ∈ lw_all) (hd : decode cc pc = .ok (.putfield idx, 3)) : z_SO own cc nL ini d G l C pc 3 (zo_pR 8 37) := so_pRF 8 37 (T := zT8) rfl zI8 zF8_ok zN8 rfl (by decide) (by decide) rfl rfl rfl rfl h hd hini hown
theorem xpF_8_38 {idx : Nat} (hini : ini = true) (hown : "QuotaPeersModel" = own) (h : Cond.fieldLink own idx "QuotaPeersModel" "reserved" "[J" ∈ lw_all) (hd : decode cc pc = .ok (.putfield idx, 3)) : z_SO own cc nL ini d G l C pc 3 (zo_pR 8 38) := so_pRF 8 38 (T := zT8) rfl zI8 zF8_ok zN8 rfl (by decide) (by decide) rfl rfl rfl rfl h hd hini hown
theorem xpF_8_39 {idx : Nat} (hini : ini = true) (hown : "QuotaPeersModel" = own) (h : Cond.fieldLink own idx "QuotaPeersModel" "charged" "[J" ∈ lw_all) (hd : decode cc pc = .ok (.putfield idx, 3)) : z_SO own cc nL ini d G l C pc 3 (zo_pR 8 39) := so_pRF 8 39 (T := zT8) rfl zI8 zF8_ok zN8 rfl (by decide) (by decide) rfl rfl rfl rfl h hd hini hown
theorem xpF_8_41 {idx : Nat} (hini : ini = true) (hown : "QuotaPeersModel" = own) (h : Cond.fieldLink own idx "QuotaPeersModel" "sName" "[B" ∈ lw_all) (hd : decode cc pc = .ok (.putfield idx, 3)) : z_SO own cc nL ini d G l C pc 3 (zo_pR 8 41) := so_pRF 8 41 (T := zT8) rfl zI8 zF8_ok zN8 rfl (by decide) (by decide) rfl rfl rfl rfl h hd hini hown
theorem xpF_8_42 {idx : Nat} (hini : ini = true) (hown : "QuotaPeersModel" = own) (h : Cond.fieldLink own idx "QuotaPeersModel" "sHost" "[B" ∈ lw_all) (hd : decode cc pc = .ok (.putfield idx, 3)) : z_SO own cc nL ini d G l C pc 3 (zo_pR 8 42) := so_pRF 8 42 (T := zT8) rfl zI8 zF8_ok zN8 rfl (by decide) (by decide) rfl rfl rfl rfl h hd hini hown
theorem xpF_8_43 {idx : Nat} (hini : ini = true) (hown : "QuotaPeersModel" = own) (h : Cond.fieldLink own idx "QuotaPeersModel" "sRealm" "[B" ∈ lw_all) (hd : decode cc pc = .ok (.putfield idx, 3)) : z_SO own cc nL ini d G l C pc 3 (zo_pR 8 43) := so_pRF 8 43 (T := zT8) rfl zI8 zF8_ok zN8 rfl (by decide) (by decide) rfl rfl rfl rfl h hd hini hown
theorem xpF_8_44 {idx : Nat} (hini : ini = true) (hown : "QuotaPeersModel" = own) (h : Cond.fieldLink own idx "QuotaPeersModel" "sAccount" "[I" ∈ lw_all) (hd : decode cc pc = .ok (.putfield idx, 3)) : z_SO own cc nL ini d G l C pc 3 (zo_pR 8 44) := so_pRF 8 44 (T := zT8) rfl zI8 zF8_ok zN8 rfl (by decide) (by decide) rfl rfl rfl rfl h hd hini hown
theorem xpF_8_45 {idx : Nat} (hini : ini = true) (hown : "QuotaPeersModel" = own) (h : Cond.fieldLink own idx "QuotaPeersModel" "sGrant" "[J" ∈ lw_all) (hd : decode cc pc = .ok (.putfield idx, 3)) : z_SO own cc nL ini d G l C pc 3 (zo_pR 8 45) := so_pRF 8 45 (T := zT8) rfl zI8 zF8_ok zN8 rfl (by decide) (by decide) rfl rfl rfl rfl h hd hini hown
theorem xpF_8_46 {idx : Nat} (hini : ini = true) (hown : "QuotaPeersModel" = own) (h : Cond.fieldLink own idx "QuotaPeersModel" "sCount" "[J" ∈ lw_all) (hd : decode cc pc = .ok (.putfield idx, 3)) : z_SO own cc nL ini d G l C pc 3 (zo_pR 8 46) := so_pRF 8 46 (T := zT8) rfl zI8 zF8_ok zN8 rfl (by decide) (by decide) rfl rfl rfl rfl h hd hini hown
theorem xpF_8_47 {idx : Nat} (hini : ini = true) (hown : "QuotaPeersModel" = own) (h : Cond.fieldLink own idx "QuotaPeersModel" "sPeer" "[I" ∈ lw_all) (hd : decode cc pc = .ok (.putfield idx, 3)) : z_SO own cc nL ini d G l C pc 3 (zo_pR 8 47) := so_pRF 8 47 (T := zT8) rfl zI8 zF8_ok zN8 rfl (by decide) (by decide) rfl rfl rfl rfl h hd hini hown
theorem xpF_8_48 {idx : Nat} (hini : ini = true) (hown : "QuotaPeersModel" = own) (h : Cond.fieldLink own idx "QuotaPeersModel" "sEnd" "[I" ∈ lw_all) (hd : decode cc pc = .ok (.putfield idx, 3)) : z_SO own cc nL ini d G l C pc 3 (zo_pR 8 48) := so_pRF 8 48 (T := zT8) rfl zI8 zF8_ok zN8 rfl (by decide) (by decide) rfl rfl rfl rfl h hd hini hown
theorem xpF_8_50 {idx : Nat} (hini : ini = true) (hown : "QuotaPeersModel" = own) (h : Cond.fieldLink own idx "QuotaPeersModel" "qName" "[B" ∈ lw_all) (hd : decode cc pc = .ok (.putfield idx, 3)) : z_SO own cc nL ini d G l C pc 3 (zo_pR 8 50) := so_pRF 8 50 (T := zT8) rfl zI8 zF8_ok zN8 rfl (by decide) (by decide) rfl rfl rfl rfl h hd hini hown
theorem xpF_8_51 {idx : Nat} (hini : ini = true) (hown : "QuotaPeersModel" = own) (h : Cond.fieldLink own idx "QuotaPeersModel" "qHost" "[B" ∈ lw_all) (hd : decode cc pc = .ok (.putfield idx, 3)) : z_SO own cc nL ini d G l C pc 3 (zo_pR 8 51) := so_pRF 8 51 (T := zT8) rfl zI8 zF8_ok zN8 rfl (by decide) (by decide) rfl rfl rfl rfl h hd hini hown
theorem xpF_8_52 {idx : Nat} (hini : ini = true) (hown : "QuotaPeersModel" = own) (h : Cond.fieldLink own idx "QuotaPeersModel" "qRealm" "[B" ∈ lw_all) (hd : decode cc pc = .ok (.putfield idx, 3)) : z_SO own cc nL ini d G l C pc 3 (zo_pR 8 52) := so_pRF 8 52 (T := zT8) rfl zI8 zF8_ok zN8 rfl (by decide) (by decide) rfl rfl rfl rfl h hd hini hown
theorem xpF_8_53 {idx : Nat} (hini : ini = true) (hown : "QuotaPeersModel" = own) (h : Cond.fieldLink own idx "QuotaPeersModel" "qResult" "[J" ∈ lw_all) (hd : decode cc pc = .ok (.putfield idx, 3)) : z_SO own cc nL ini d G l C pc 3 (zo_pR 8 53) := so_pRF 8 53 (T := zT8) rfl zI8 zF8_ok zN8 rfl (by decide) (by decide) rfl rfl rfl rfl h hd hini hown
theorem xpF_8_54 {idx : Nat} (hini : ini = true) (hown : "QuotaPeersModel" = own) (h : Cond.fieldLink own idx "QuotaPeersModel" "qPeer" "[I" ∈ lw_all) (hd : decode cc pc = .ok (.putfield idx, 3)) : z_SO own cc nL ini d G l C pc 3 (zo_pR 8 54) := so_pRF 8 54 (T := zT8) rfl zI8 zF8_ok zN8 rfl (by decide) (by decide) rfl rfl rfl rfl h hd hini hown
theorem xpF_8_55 {idx : Nat} (hini : ini = true) (hown : "QuotaPeersModel" = own) (h : Cond.fieldLink own idx "QuotaPeersModel" "qTimes" "[I" ∈ lw_all) (hd : decode cc pc = .ok (.putfield idx, 3)) : z_SO own cc nL ini d G l C pc 3 (zo_pR 8 55) := so_pRF 8 55 (T := zT8) rfl zI8 zF8_ok zN8 rfl (by decide) (by decide) rfl rfl rfl rfl h hd hini hown
theorem xpF_8_56 {idx : Nat} (hini : ini = true) (hown : "QuotaPeersModel" = own) (h : Cond.fieldLink own idx "QuotaPeersModel" "qHop" "[I" ∈ lw_all) (hd : decode cc pc = .ok (.putfield idx, 3)) : z_SO own cc nL ini d G l C pc 3 (zo_pR 8 56) := so_pRF 8 56 (T := zT8) rfl zI8 zF8_ok zN8 rfl (by decide) (by decide) rfl rfl rfl rfl h hd hini hown
theorem xpF_8_57 {idx : Nat} (hini : ini = true) (hown : "QuotaPeersModel" = own) (h : Cond.fieldLink own idx "QuotaPeersModel" "qEnd" "[I" ∈ lw_all) (hd : decode cc pc = .ok (.putfield idx, 3)) : z_SO own cc nL ini d G l C pc 3 (zo_pR 8 57) := so_pRF 8 57 (T := zT8) rfl zI8 zF8_ok zN8 rfl (by decide) (by decide) rfl rfl rfl rfl h hd hini hown
theorem xpF_8_58 {idx : Nat} (hini : ini = true) (hown : "QuotaPeersModel" = own) (h : Cond.fieldLink own idx "QuotaPeersModel" "qConnection" "[I" ∈ lw_all) (hd : decode cc pc = .ok (.putfield idx, 3)) : z_SO own cc nL ini d G l C pc 3 (zo_pR 8 58) := so_pRF 8 58 (T := zT8) rfl zI8 zF8_ok zN8 rfl (by decide) (by decide) rfl rfl rfl rfl h hd hini hown
theorem xpF_8_60 {idx : Nat} (hini : ini = true) (hown : "QuotaPeersModel" = own) (h : Cond.fieldLink own idx "QuotaPeersModel" "kept" "[B" ∈ lw_all) (hd : decode cc pc = .ok (.putfield idx, 3)) : z_SO own cc nL ini d G l C pc 3 (zo_pR 8 60) := so_pRF 8 60 (T := zT8) rfl zI8 zF8_ok zN8 rfl (by decide) (by decide) rfl rfl rfl rfl h hd hini hown
theorem xpF_8_61 {idx : Nat} (hini : ini = true) (hown : "QuotaPeersModel" = own) (h : Cond.fieldLink own idx "QuotaPeersModel" "keptSize" "[I" ∈ lw_all) (hd : decode cc pc = .ok (.putfield idx, 3)) : z_SO own cc nL ini d G l C pc 3 (zo_pR 8 61) := so_pRF 8 61 (T := zT8) rfl zI8 zF8_ok zN8 rfl (by decide) (by decide) rfl rfl rfl rfl h hd hini hown
theorem xpF_8_62 {idx : Nat} (hini : ini = true) (hown : "QuotaPeersModel" = own) (h : Cond.fieldLink own idx "QuotaPeersModel" "keptHost" "[B" ∈ lw_all) (hd : decode cc pc = .ok (.putfield idx, 3)) : z_SO own cc nL ini d G l C pc 3 (zo_pR 8 62) := so_pRF 8 62 (T := zT8) rfl zI8 zF8_ok zN8 rfl (by decide) (by decide) rfl rfl rfl rfl h hd hini hown
theorem xpF_8_63 {idx : Nat} (hini : ini = true) (hown : "QuotaPeersModel" = own) (h : Cond.fieldLink own idx "QuotaPeersModel" "keptEnd" "[I" ∈ lw_all) (hd : decode cc pc = .ok (.putfield idx, 3)) : z_SO own cc nL ini d G l C pc 3 (zo_pR 8 63) := so_pRF 8 63 (T := zT8) rfl zI8 zF8_ok zN8 rfl (by decide) (by decide) rfl rfl rfl rfl h hd hini hown
theorem xpF_8_64 {idx : Nat} (hini : ini = true) (hown : "QuotaPeersModel" = own) (h : Cond.fieldLink own idx "QuotaPeersModel" "keptTill" "[I" ∈ lw_all) (hd : decode cc pc = .ok (.putfield idx, 3)) : z_SO own cc nL ini d G l C pc 3 (zo_pR 8 64) := so_pRF 8 64 (T := zT8) rfl zI8 zF8_ok zN8 rfl (by decide) (by decide) rfl rfl rfl rfl h hd hini hown
theorem xpF_8_65 {idx : Nat} (hini : ini = true) (hown : "QuotaPeersModel" = own) (h : Cond.fieldLink own idx "QuotaPeersModel" "made" "[B" ∈ lw_all) (hd : decode cc pc = .ok (.putfield idx, 3)) : z_SO own cc nL ini d G l C pc 3 (zo_pR 8 65) := so_pRF 8 65 (T := zT8) rfl zI8 zF8_ok zN8 rfl (by decide) (by decide) rfl rfl rfl rfl h hd hini hown
theorem xpF_8_76 {idx : Nat} (hini : ini = true) (hown : "QuotaPeersModel" = own) (h : Cond.fieldLink own idx "QuotaPeersModel" "keeps" "[I" ∈ lw_all) (hd : decode cc pc = .ok (.putfield idx, 3)) : z_SO own cc nL ini d G l C pc 3 (zo_pR 8 76) := so_pRF 8 76 (T := zT8) rfl zI8 zF8_ok zN8 rfl (by decide) (by decide) rfl rfl rfl rfl h hd hini hown
theorem xpF_8_77 {idx : Nat} (hini : ini = true) (hown : "QuotaPeersModel" = own) (h : Cond.fieldLink own idx "QuotaPeersModel" "firstAt" "[I" ∈ lw_all) (hd : decode cc pc = .ok (.putfield idx, 3)) : z_SO own cc nL ini d G l C pc 3 (zo_pR 8 77) := so_pRF 8 77 (T := zT8) rfl zI8 zF8_ok zN8 rfl (by decide) (by decide) rfl rfl rfl rfl h hd hini hown
theorem xpF_8_78 {idx : Nat} (hini : ini = true) (hown : "QuotaPeersModel" = own) (h : Cond.fieldLink own idx "QuotaPeersModel" "firstSize" "[I" ∈ lw_all) (hd : decode cc pc = .ok (.putfield idx, 3)) : z_SO own cc nL ini d G l C pc 3 (zo_pR 8 78) := so_pRF 8 78 (T := zT8) rfl zI8 zF8_ok zN8 rfl (by decide) (by decide) rfl rfl rfl rfl h hd hini hown
theorem xpF_8_79 {idx : Nat} (hini : ini = true) (hown : "QuotaPeersModel" = own) (h : Cond.fieldLink own idx "QuotaPeersModel" "often" "[I" ∈ lw_all) (hd : decode cc pc = .ok (.putfield idx, 3)) : z_SO own cc nL ini d G l C pc 3 (zo_pR 8 79) := so_pRF 8 79 (T := zT8) rfl zI8 zF8_ok zN8 rfl (by decide) (by decide) rfl rfl rfl rfl h hd hini hown
theorem xpF_8_85 {idx : Nat} (hini : ini = true) (hown : "QuotaPeersModel" = own) (h : Cond.fieldLink own idx "QuotaPeersModel" "ends" "[I" ∈ lw_all) (hd : decode cc pc = .ok (.putfield idx, 3)) : z_SO own cc nL ini d G l C pc 3 (zo_pR 8 85) := so_pRF 8 85 (T := zT8) rfl zI8 zF8_ok zN8 rfl (by decide) (by decide) rfl rfl rfl rfl h hd hini hown
theorem xpF_8_86 {idx : Nat} (hini : ini = true) (hown : "QuotaPeersModel" = own) (h : Cond.fieldLink own idx "QuotaPeersModel" "behind" "[I" ∈ lw_all) (hd : decode cc pc = .ok (.putfield idx, 3)) : z_SO own cc nL ini d G l C pc 3 (zo_pR 8 86) := so_pRF 8 86 (T := zT8) rfl zI8 zF8_ok zN8 rfl (by decide) (by decide) rfl rfl rfl rfl h hd hini hown
theorem xpF_8_87 {idx : Nat} (hini : ini = true) (hown : "QuotaPeersModel" = own) (h : Cond.fieldLink own idx "QuotaPeersModel" "group" "[I" ∈ lw_all) (hd : decode cc pc = .ok (.putfield idx, 3)) : z_SO own cc nL ini d G l C pc 3 (zo_pR 8 87) := so_pRF 8 87 (T := zT8) rfl zI8 zF8_ok zN8 rfl (by decide) (by decide) rfl rfl rfl rfl h hd hini hown
theorem xpF_9_1 {idx : Nat} (hini : ini = true) (hown : "QuotaPeers$Peer" = own) (h : Cond.fieldLink own idx "QuotaPeers$Peer" "host" "LQuotaPeers$Text;" ∈ lw_all) (hd : decode cc pc = .ok (.putfield idx, 3)) : z_SO own cc nL ini d G l C pc 3 (zo_pR 9 1) := so_pRF 9 1 (T := zT9) rfl zI9 zF9_ok zN9 rfl (by decide) (by decide) rfl rfl rfl rfl h hd hini hown
theorem xpN_4_2 {idx : Nat} {host : String} (h : Cond.fieldLinkNest own idx "QuotaPeers$Link" "owner" "LQuotaPeers$Peer;" host ∈ lw_tbl) (hd : decode cc pc = .ok (.putfield idx, 3)) : z_SO own cc nL ini d G l C pc 3 (zo_pR 4 2) := so_pRN 4 2 (T := zT4) rfl zI4 zF4_ok zN4 rfl (by decide) (by decide) rfl rfl rfl rfl h hd
theorem xpN_5_3 {idx : Nat} {host : String} (h : Cond.fieldLinkNest own idx "QuotaPeers$Session" "account" "LQuotaPeers$Account;" host ∈ lw_tbl) (hd : decode cc pc = .ok (.putfield idx, 3)) : z_SO own cc nL ini d G l C pc 3 (zo_pR 5 3) := so_pRN 5 3 (T := zT5) rfl zI5 zF5_ok zN5 rfl (by decide) (by decide) rfl rfl rfl rfl h hd
theorem xpN_6_4 {idx : Nat} {host : String} (h : Cond.fieldLinkNest own idx "QuotaPeers$Question" "peer" "LQuotaPeers$Peer;" host ∈ lw_tbl) (hd : decode cc pc = .ok (.putfield idx, 3)) : z_SO own cc nL ini d G l C pc 3 (zo_pR 6 4) := so_pRN 6 4 (T := zT6) rfl zI6 zF6_ok zN6 rfl (by decide) (by decide) rfl rfl rfl rfl h hd
theorem xpN_9_5 {idx : Nat} {host : String} (h : Cond.fieldLinkNest own idx "QuotaPeers$Peer" "own" "LQuotaPeers$Link;" host ∈ lw_tbl) (hd : decode cc pc = .ok (.putfield idx, 3)) : z_SO own cc nL ini d G l C pc 3 (zo_pR 9 5) := so_pRN 9 5 (T := zT9) rfl zI9 zF9_ok zN9 rfl (by decide) (by decide) rfl rfl rfl rfl h hd
theorem xpN_9_6 {idx : Nat} {host : String} (h : Cond.fieldLinkNest own idx "QuotaPeers$Peer" "came" "LQuotaPeers$Link;" host ∈ lw_tbl) (hd : decode cc pc = .ok (.putfield idx, 3)) : z_SO own cc nL ini d G l C pc 3 (zo_pR 9 6) := so_pRN 9 6 (T := zT9) rfl zI9 zF9_ok zN9 rfl (by decide) (by decide) rfl rfl rfl rfl h hd
theorem xp_4_3 {idx : Nat} (h : Cond.fieldLink own idx "QuotaPeers$Link" "own" "Z" ∈ lw_all) (hd : decode cc pc = .ok (.putfield idx, 3)) : z_SO own cc nL ini d G l C pc 3 (zo_pZ 4 3) := so_pZ 4 3 (T := zT4) rfl zI4 zF4_ok zN4 rfl (by decide) (by decide) rfl rfl rfl rfl h hd
theorem xp_8_80 {idx : Nat} (h : Cond.fieldLink own idx "QuotaPeersModel" "goodAuth" "Z" ∈ lw_all) (hd : decode cc pc = .ok (.putfield idx, 3)) : z_SO own cc nL ini d G l C pc 3 (zo_pZ 8 80) := so_pZ 8 80 (T := zT8) rfl zI8 zF8_ok zN8 rfl (by decide) (by decide) rfl rfl rfl rfl h hd
theorem xp_8_89 {idx : Nat} (h : Cond.fieldLink own idx "QuotaPeersModel" "tells" "Z" ∈ lw_all) (hd : decode cc pc = .ok (.putfield idx, 3)) : z_SO own cc nL ini d G l C pc 3 (zo_pZ 8 89) := so_pZ 8 89 (T := zT8) rfl zI8 zF8_ok zN8 rfl (by decide) (by decide) rfl rfl rfl rfl h hd
theorem xpF_9_2 {idx : Nat} (hini : ini = true) (hown : "QuotaPeers$Peer" = own) (h : Cond.fieldLink own idx "QuotaPeers$Peer" "starts" "Z" ∈ lw_all) (hd : decode cc pc = .ok (.putfield idx, 3)) : z_SO own cc nL ini d G l C pc 3 (zo_pZ 9 2) := so_pZF 9 2 (T := zT9) rfl zI9 zF9_ok zN9 rfl (by decide) (by decide) rfl rfl rfl rfl h hd hini hown
theorem xpN_9_11 {idx : Nat} {host : String} (h : Cond.fieldLinkNest own idx "QuotaPeers$Peer" "awaited" "Z" host ∈ lw_tbl) (hd : decode cc pc = .ok (.putfield idx, 3)) : z_SO own cc nL ini d G l C pc 3 (zo_pZ 9 11) := so_pZN 9 11 (T := zT9) rfl zI9 zF9_ok zN9 rfl (by decide) (by decide) rfl rfl rfl rfl h hd
theorem xd_0 : ∀ j, j < 22 → defaultValue (zF0 j) = z_dv (fTy 0 j) := by decide +kernel
theorem xn_0 {idx : Nat} (h : Cond.classLink own idx "QuotaPeers" ∈ lw_all) (hd : decode cc pc = .ok (.new idx, 3)) : z_SO own cc nL ini d G l C pc 3 (zo_new 0) := so_new 0 (T := zT0) rfl zI0 zF0_ok rfl (by decide) h w150 w134 xd_0 hd
theorem xd_1 : ∀ j, j < 2 → defaultValue (zF1 j) = z_dv (fTy 1 j) := by decide +kernel
theorem xn_1 {idx : Nat} (h : Cond.classLink own idx "QuotaPeers$Text" ∈ lw_all) (hd : decode cc pc = .ok (.new idx, 3)) : z_SO own cc nL ini d G l C pc 3 (zo_new 1) := so_new 1 (T := zT1) rfl zI1 zF1_ok rfl (by decide) h w158 w135 xd_1 hd
theorem xd_2 : ∀ j, j < 2 → defaultValue (zF2 j) = z_dv (fTy 2 j) := by decide +kernel
theorem xn_2 {idx : Nat} (h : Cond.classLink own idx "QuotaPeers$Page" ∈ lw_all) (hd : decode cc pc = .ok (.new idx, 3)) : z_SO own cc nL ini d G l C pc 3 (zo_new 2) := so_new 2 (T := zT2) rfl zI2 zF2_ok rfl (by decide) h w175 w136 xd_2 hd
theorem xd_3 : ∀ j, j < 15 → defaultValue (zF3 j) = z_dv (fTy 3 j) := by decide +kernel
theorem xn_3 {idx : Nat} (h : Cond.classLink own idx "QuotaPeers$Message" ∈ lw_all) (hd : decode cc pc = .ok (.new idx, 3)) : z_SO own cc nL ini d G l C pc 3 (zo_new 3) := so_new 3 (T := zT3) rfl zI3 zF3_ok rfl (by decide) h w190 w137 xd_3 hd
theorem xd_4 : ∀ j, j < 9 → defaultValue (zF4 j) = z_dv (fTy 4 j) := by decide +kernel
theorem xn_4 {idx : Nat} (h : Cond.classLink own idx "QuotaPeers$Link" ∈ lw_all) (hd : decode cc pc = .ok (.new idx, 3)) : z_SO own cc nL ini d G l C pc 3 (zo_new 4) := so_new 4 (T := zT4) rfl zI4 zF4_ok rfl (by decide) h w292 w140 xd_4 hd
theorem xd_5 : ∀ j, j < 8 → defaultValue (zF5 j) = z_dv (fTy 5 j) := by decide +kernel
theorem xn_5 {idx : Nat} (h : Cond.classLink own idx "QuotaPeers$Session" ∈ lw_all) (hd : decode cc pc = .ok (.new idx, 3)) : z_SO own cc nL ini d G l C pc 3 (zo_new 5) := so_new 5 (T := zT5) rfl zI5 zF5_ok rfl (by decide) h w332 w141 xd_5 hd
theorem xd_6 : ∀ j, j < 8 → defaultValue (zF6 j) = z_dv (fTy 6 j) := by decide +kernel
theorem xn_6 {idx : Nat} (h : Cond.classLink own idx "QuotaPeers$Question" ∈ lw_all) (hd : decode cc pc = .ok (.new idx, 3)) : z_SO own cc nL ini d G l C pc 3 (zo_new 6) := so_new 6 (T := zT6) rfl zI6 zF6_ok rfl (by decide) h w369 w142 xd_6 hd
theorem xd_7 : ∀ j, j < 5 → defaultValue (zF7 j) = z_dv (fTy 7 j) := by decide +kernel
theorem xn_7 {idx : Nat} (h : Cond.classLink own idx "QuotaPeers$Answer" ∈ lw_all) (hd : decode cc pc = .ok (.new idx, 3)) : z_SO own cc nL ini d G l C pc 3 (zo_new 7) := so_new 7 (T := zT7) rfl zI7 zF7_ok rfl (by decide) h w404 w143 xd_7 hd
theorem xd_8 : ∀ j, j < 92 → defaultValue (zF8 j) = z_dv (fTy 8 j) := by decide +kernel
theorem xn_8 {idx : Nat} (h : Cond.classLink own idx "QuotaPeersModel" ∈ lw_all) (hd : decode cc pc = .ok (.new idx, 3)) : z_SO own cc nL ini d G l C pc 3 (zo_new 8) := so_new 8 (T := zT8) rfl zI8 zF8_ok rfl (by decide) h w1146 w144 xd_8 hd
theorem xd_9 : ∀ j, j < 18 → defaultValue (zF9 j) = z_dv (fTy 9 j) := by decide +kernel
theorem xn_9 {idx : Nat} (h : Cond.classLink own idx "QuotaPeers$Peer" ∈ lw_all) (hd : decode cc pc = .ok (.new idx, 3)) : z_SO own cc nL ini d G l C pc 3 (zo_new 9) := so_new 9 (T := zT9) rfl zI9 zF9_ok rfl (by decide) h w524 w146 xd_9 hd
theorem xd_10 : ∀ j, j < 4 → defaultValue (zF10 j) = z_dv (fTy 10 j) := by decide +kernel
theorem xn_10 {idx : Nat} (h : Cond.classLink own idx "QuotaPeers$Account" ∈ lw_all) (hd : decode cc pc = .ok (.new idx, 3)) : z_SO own cc nL ini d G l C pc 3 (zo_new 10) := so_new 10 (T := zT10) rfl zI10 zF10_ok rfl (by decide) h w1093 w148 xd_10 hd
theorem xo_1 : Cond.instanceMethod Lib.objectInit ∈ lw_all := w155
theorem xo_2 : Cond.code Lib.objectInit ⟨#[0xb1]⟩ 1 none ∈ lw_all := w156
theorem xm_max {idx : Nat} (h : Cond.methodLink own idx ({ cls := "java/lang/Math", name := "max", desc := "(JJ)J" } : Jvm.MethodName) ∈ lw_all) (hd : decode cc pc = .ok (.invokestatic idx, 3)) : z_SO own cc nL ini d G l C pc 3 zo_maxJ := so_maxJ h w919 w147 w920 hd
theorem xm_min {idx : Nat} (h : Cond.methodLink own idx ({ cls := "java/lang/Math", name := "min", desc := "(JJ)J" } : Jvm.MethodName) ∈ lw_all) (hd : decode cc pc = .ok (.invokestatic idx, 3)) : z_SO own cc nL ini d G l C pc 3 zo_minJ := so_minJ h w945 w147 w946 hd
theorem xa_copy {idx : Nat} (h : Cond.methodLink own idx ({ cls := "java/lang/System", name := "arraycopy", desc := "(Ljava/lang/Object;ILjava/lang/Object;II)V" } : Jvm.MethodName) ∈ lw_all) (hd : decode cc pc = .ok (.invokestatic idx, 3)) : z_SO own cc nL ini d G l C pc 3 zo_copy := so_copy h w515 w514 w145 hd
theorem xc_0 (hC : z_HC l G d z_tb C) {idx : Nat} (h : Cond.methodLink own idx zy0 ∈ lw_all) (hd : decode cc pc = .ok (.invokestatic idx, 3)) : z_SO own cc nL ini d G l C pc 3 (zo_crS 0 1) := so_crS 0 1 hC zt0 (by decide) h w502 w134 w503 ⟨by decide, by decide, by decide +kernel⟩ hd
theorem xc_1 (hC : z_HC l G d z_tb C) {idx : Nat} (h : Cond.methodLink own idx zy1 ∈ lw_all) (hd : decode cc pc = .ok (.invokespecial idx, 3)) : z_SO own cc nL ini d G l C pc 3 (zo_cvV 1 0 0) := so_cvI 1 0 0 (T := zT0) hC zt1 (by decide) rfl (by decide) h w152 w134 w153 rfl ⟨by decide, by decide, by decide +kernel⟩ hd
theorem xc_2 (hC : z_HC l G d z_tb C) {idx : Nat} (h : Cond.methodLink own idx zy2 ∈ lw_all) (hd : decode cc pc = .ok (.invokestatic idx, 3)) : z_SO own cc nL ini d G l C pc 3 (zo_crS 2 3) := so_crS 2 3 hC zt2 (by decide) h w603 w134 w604 ⟨by decide, by decide, by decide +kernel⟩ hd
theorem xc_3 (hC : z_HC l G d z_tb C) {idx : Nat} (h : Cond.methodLink own idx zy3 ∈ lw_all) (hd : decode cc pc = .ok (.invokevirtual idx, 3)) : z_SO own cc nL ini d G l C pc 3 (zo_crV 3 1 0) := so_crV 3 1 0 (T := zT0) hC zt3 (by decide) rfl (by decide) h w497 w498 w134 w499 ⟨rfl, by decide, by decide, by decide +kernel⟩ hd
theorem xc_4 (hC : z_HC l G d z_tb C) {idx : Nat} (h : Cond.methodLink own idx zy4 ∈ lw_all) (hd : decode cc pc = .ok (.invokevirtual idx, 3)) : z_SO own cc nL ini d G l C pc 3 (zo_crV 4 0 0) := so_crV 4 0 0 (T := zT0) hC zt4 (by decide) rfl (by decide) h w506 w507 w134 w508 ⟨rfl, by decide, by decide, by decide +kernel⟩ hd
theorem xc_5 (hC : z_HC l G d z_tb C) {idx : Nat} (h : Cond.methodLink own idx zy5 ∈ lw_all) (hd : decode cc pc = .ok (.invokevirtual idx, 3)) : z_SO own cc nL ini d G l C pc 3 (zo_crV 5 1 0) := so_crV 5 1 0 (T := zT0) hC zt5 (by decide) rfl (by decide) h w517 w518 w134 w519 ⟨rfl, by decide, by decide, by decide +kernel⟩ hd
theorem xc_6 (hC : z_HC l G d z_tb C) {idx : Nat} (h : Cond.methodLink own idx zy6 ∈ lw_all) (hd : decode cc pc = .ok (.invokevirtual idx, 3)) : z_SO own cc nL ini d G l C pc 3 (zo_crV 6 1 0) := so_crV 6 1 0 (T := zT0) hC zt6 (by decide) rfl (by decide) h w600 qs0 w134 w601 ⟨rfl, by decide, by decide, by decide +kernel⟩ hd
theorem xc_7 (hC : z_HC l G d z_tb C) {idx : Nat} (h : Cond.methodLink own idx zy7 ∈ lw_all) (hd : decode cc pc = .ok (.invokevirtual idx, 3)) : z_SO own cc nL ini d G l C pc 3 (zo_crV 7 1 0) := so_crV 7 1 0 (T := zT0) hC zt7 (by decide) rfl (by decide) h w720 qs17 w134 w721 ⟨rfl, by decide, by decide, by decide +kernel⟩ hd
theorem xc_8 (hC : z_HC l G d z_tb C) {idx : Nat} (h : Cond.methodLink own idx zy8 ∈ lw_all) (hd : decode cc pc = .ok (.invokevirtual idx, 3)) : z_SO own cc nL ini d G l C pc 3 (zo_crV 8 0 0) := so_crV 8 0 0 (T := zT0) hC zt8 (by decide) rfl (by decide) h w607 qs1 w134 w608 ⟨rfl, by decide, by decide, by decide +kernel⟩ hd
theorem xc_9 (hC : z_HC l G d z_tb C) {idx : Nat} (h : Cond.methodLink own idx zy9 ∈ lw_all) (hd : decode cc pc = .ok (.invokevirtual idx, 3)) : z_SO own cc nL ini d G l C pc 3 (zo_cvV 9 1 0) := so_cvV 9 1 0 (T := zT0) hC zt9 (by decide) rfl (by decide) h w687 qs13 w134 w688 ⟨rfl, by decide, by decide, by decide +kernel⟩ hd
theorem xc_10 (hC : z_HC l G d z_tb C) {idx : Nat} (h : Cond.methodLink own idx zy10 ∈ lw_all) (hd : decode cc pc = .ok (.invokevirtual idx, 3)) : z_SO own cc nL ini d G l C pc 3 (zo_cvV 10 4 0) := so_cvV 10 4 0 (T := zT0) hC zt10 (by decide) rfl (by decide) h w648 qs8 w134 w649 ⟨rfl, by decide, by decide, by decide +kernel⟩ hd
theorem xc_11 (hC : z_HC l G d z_tb C) {idx : Nat} (h : Cond.methodLink own idx zy11 ∈ lw_all) (hd : decode cc pc = .ok (.invokevirtual idx, 3)) : z_SO own cc nL ini d G l C pc 3 (zo_cvV 11 0 0) := so_cvV 11 0 0 (T := zT0) hC zt11 (by decide) rfl (by decide) h w674 qs12 w134 w675 ⟨rfl, by decide, by decide, by decide +kernel⟩ hd
theorem xc_12 (hC : z_HC l G d z_tb C) {idx : Nat} (h : Cond.methodLink own idx zy12 ∈ lw_all) (hd : decode cc pc = .ok (.invokevirtual idx, 3)) : z_SO own cc nL ini d G l C pc 3 (zo_cvV 12 0 0) := so_cvV 12 0 0 (T := zT0) hC zt12 (by decide) rfl (by decide) h w756 qs22 w134 w757 ⟨rfl, by decide, by decide, by decide +kernel⟩ hd
theorem xc_13 (hC : z_HC l G d z_tb C) {idx : Nat} (h : Cond.methodLink own idx zy13 ∈ lw_all) (hd : decode cc pc = .ok (.invokevirtual idx, 3)) : z_SO own cc nL ini d G l C pc 3 (zo_cvV 13 1 0) := so_cvV 13 1 0 (T := zT0) hC zt13 (by decide) rfl (by decide) h w769 qs24 w134 w770 ⟨rfl, by decide, by decide, by decide +kernel⟩ hd
theorem xc_14 (hC : z_HC l G d z_tb C) {idx : Nat} (h : Cond.methodLink own idx zy14 ∈ lw_all) (hd : decode cc pc = .ok (.invokevirtual idx, 3)) : z_SO own cc nL ini d G l C pc 3 (zo_cvV 14 1 0) := so_cvV 14 1 0 (T := zT0) hC zt14 (by decide) rfl (by decide) h w708 qs16 w134 w709 ⟨rfl, by decide, by decide, by decide +kernel⟩ hd
theorem xc_15 (hC : z_HC l G d z_tb C) {idx : Nat} (h : Cond.methodLink own idx zy15 ∈ lw_all) (hd : decode cc pc = .ok (.invokevirtual idx, 3)) : z_SO own cc nL ini d G l C pc 3 (zo_cvV 15 6 0) := so_cvV 15 6 0 (T := zT0) hC zt15 (by decide) rfl (by decide) h w751 qs21 w134 w752 ⟨rfl, by decide, by decide, by decide +kernel⟩ hd
theorem xc_16 (hC : z_HC l G d z_tb C) {idx : Nat} (h : Cond.methodLink own idx zy16 ∈ lw_all) (hd : decode cc pc = .ok (.invokevirtual idx, 3)) : z_SO own cc nL ini d G l C pc 3 (zo_cvV 16 2 0) := so_cvV 16 2 0 (T := zT0) hC zt16 (by decide) rfl (by decide) h w863 qs36 w134 w864 ⟨rfl, by decide, by decide, by decide +kernel⟩ hd
theorem xc_17 (hC : z_HC l G d z_tb C) {idx : Nat} (h : Cond.methodLink own idx zy17 ∈ lw_all) (hd : decode cc pc = .ok (.invokevirtual idx, 3)) : z_SO own cc nL ini d G l C pc 3 (zo_cvV 17 2 0) := so_cvV 17 2 0 (T := zT0) hC zt17 (by decide) rfl (by decide) h w859 qs35 w134 w860 ⟨rfl, by decide, by decide, by decide +kernel⟩ hd
theorem xc_18 (hC : z_HC l G d z_tb C) {idx : Nat} (h : Cond.methodLink own idx zy18 ∈ lw_all) (hd : decode cc pc = .ok (.invokevirtual idx, 3)) : z_SO own cc nL ini d G l C pc 3 (zo_cvV 18 3 0) := so_cvV 18 3 0 (T := zT0) hC zt18 (by decide) rfl (by decide) h w892 qs37 w134 w893 ⟨rfl, by decide, by decide, by decide +kernel⟩ hd
theorem xc_19 (hC : z_HC l G d z_tb C) {idx : Nat} (h : Cond.methodLink own idx zy19 ∈ lw_all) (hd : decode cc pc = .ok (.invokevirtual idx, 3)) : z_SO own cc nL ini d G l C pc 3 (zo_cvV 19 1 0) := so_cvV 19 1 0 (T := zT0) hC zt19 (by decide) rfl (by decide) h w747 qs20 w134 w748 ⟨rfl, by decide, by decide, by decide +kernel⟩ hd
theorem xc_20 (hC : z_HC l G d z_tb C) {idx : Nat} (h : Cond.methodLink own idx zy20 ∈ lw_all) (hd : decode cc pc = .ok (.invokestatic idx, 3)) : z_SO own cc nL ini d G l C pc 3 (zo_cvS 20 1) := so_cvS 20 1 hC zt20 (by decide) h w736 w134 w737 ⟨by decide, by decide, by decide +kernel⟩ hd
theorem xc_21 (hC : z_HC l G d z_tb C) {idx : Nat} (h : Cond.methodLink own idx zy21 ∈ lw_all) (hd : decode cc pc = .ok (.invokestatic idx, 3)) : z_SO own cc nL ini d G l C pc 3 (zo_cvS 21 1) := so_cvS 21 1 hC zt21 (by decide) h w739 w134 w740 ⟨by decide, by decide, by decide +kernel⟩ hd
theorem xc_22 (hC : z_HC l G d z_tb C) {idx : Nat} (h : Cond.methodLink own idx zy22 ∈ lw_all) (hd : decode cc pc = .ok (.invokevirtual idx, 3)) : z_SO own cc nL ini d G l C pc 3 (zo_cvV 22 2 0) := so_cvV 22 2 0 (T := zT0) hC zt22 (by decide) rfl (by decide) h w619 qs3 w134 w620 ⟨rfl, by decide, by decide, by decide +kernel⟩ hd
theorem xc_23 (hC : z_HC l G d z_tb C) {idx : Nat} (h : Cond.methodLink own idx zy23 ∈ lw_all) (hd : decode cc pc = .ok (.invokevirtual idx, 3)) : z_SO own cc nL ini d G l C pc 3 (zo_cvV 23 1 0) := so_cvV 23 1 0 (T := zT0) hC zt23 (by decide) rfl (by decide) h w704 qs15 w134 w705 ⟨rfl, by decide, by decide, by decide +kernel⟩ hd
theorem xc_24 (hC : z_HC l G d z_tb C) {idx : Nat} (h : Cond.methodLink own idx zy24 ∈ lw_all) (hd : decode cc pc = .ok (.invokevirtual idx, 3)) : z_SO own cc nL ini d G l C pc 3 (zo_cvV 24 1 0) := so_cvV 24 1 0 (T := zT0) hC zt24 (by decide) rfl (by decide) h w627 qs4 w134 w628 ⟨rfl, by decide, by decide, by decide +kernel⟩ hd
theorem xc_25 (hC : z_HC l G d z_tb C) {idx : Nat} (h : Cond.methodLink own idx zy25 ∈ lw_all) (hd : decode cc pc = .ok (.invokevirtual idx, 3)) : z_SO own cc nL ini d G l C pc 3 (zo_cvV 25 1 0) := so_cvV 25 1 0 (T := zT0) hC zt25 (by decide) rfl (by decide) h w765 qs23 w134 w766 ⟨rfl, by decide, by decide, by decide +kernel⟩ hd
theorem xc_26 (hC : z_HC l G d z_tb C) {idx : Nat} (h : Cond.methodLink own idx zy26 ∈ lw_all) (hd : decode cc pc = .ok (.invokevirtual idx, 3)) : z_SO own cc nL ini d G l C pc 3 (zo_cvV 26 1 0) := so_cvV 26 1 0 (T := zT0) hC zt26 (by decide) rfl (by decide) h w743 qs19 w134 w744 ⟨rfl, by decide, by decide, by decide +kernel⟩ hd
theorem xc_27 (hC : z_HC l G d z_tb C) {idx : Nat} (h : Cond.methodLink own idx zy27 ∈ lw_all) (hd : decode cc pc = .ok (.invokevirtual idx, 3)) : z_SO own cc nL ini d G l C pc 3 (zo_cvV 27 1 0) := so_cvV 27 1 0 (T := zT0) hC zt27 (by decide) rfl (by decide) h w773 qs25 w134 w774 ⟨rfl, by decide, by decide, by decide +kernel⟩ hd
theorem xc_28 (hC : z_HC l G d z_tb C) {idx : Nat} (h : Cond.methodLink own idx zy28 ∈ lw_all) (hd : decode cc pc = .ok (.invokevirtual idx, 3)) : z_SO own cc nL ini d G l C pc 3 (zo_cvV 28 1 0) := so_cvV 28 1 0 (T := zT0) hC zt28 (by decide) rfl (by decide) h w729 qs18 w134 w730 ⟨rfl, by decide, by decide, by decide +kernel⟩ hd
theorem xc_29 (hC : z_HC l G d z_tb C) {idx : Nat} (h : Cond.methodLink own idx zy29 ∈ lw_all) (hd : decode cc pc = .ok (.invokevirtual idx, 3)) : z_SO own cc nL ini d G l C pc 3 (zo_cvV 29 2 0) := so_cvV 29 2 0 (T := zT0) hC zt29 (by decide) rfl (by decide) h w611 qs2 w134 w612 ⟨rfl, by decide, by decide, by decide +kernel⟩ hd
theorem xc_30 (hC : z_HC l G d z_tb C) {idx : Nat} (h : Cond.methodLink own idx zy30 ∈ lw_all) (hd : decode cc pc = .ok (.invokevirtual idx, 3)) : z_SO own cc nL ini d G l C pc 3 (zo_crV 30 1 0) := so_crV 30 1 0 (T := zT0) hC zt30 (by decide) rfl (by decide) h w595 w596 w134 w597 ⟨rfl, by decide, by decide, by decide +kernel⟩ hd
theorem xc_31 (hC : z_HC l G d z_tb C) {idx : Nat} (h : Cond.methodLink own idx zy31 ∈ lw_all) (hd : decode cc pc = .ok (.invokevirtual idx, 3)) : z_SO own cc nL ini d G l C pc 3 (zo_crV 31 0 0) := so_crV 31 0 0 (T := zT0) hC zt31 (by decide) rfl (by decide) h w711 w712 w134 w713 ⟨rfl, by decide, by decide, by decide +kernel⟩ hd
theorem xc_32 (hC : z_HC l G d z_tb C) {idx : Nat} (h : Cond.methodLink own idx zy32 ∈ lw_all) (hd : decode cc pc = .ok (.invokevirtual idx, 3)) : z_SO own cc nL ini d G l C pc 3 (zo_crV 32 2 0) := so_crV 32 2 0 (T := zT0) hC zt32 (by decide) rfl (by decide) h w715 w716 w134 w717 ⟨rfl, by decide, by decide, by decide +kernel⟩ hd
theorem xc_33 (hC : z_HC l G d z_tb C) {idx : Nat} (h : Cond.methodLink own idx zy33 ∈ lw_all) (hd : decode cc pc = .ok (.invokevirtual idx, 3)) : z_SO own cc nL ini d G l C pc 3 (zo_crV 33 1 0) := so_crV 33 1 0 (T := zT0) hC zt33 (by decide) rfl (by decide) h w780 w781 w134 w782 ⟨rfl, by decide, by decide, by decide +kernel⟩ hd
theorem xc_34 (hC : z_HC l G d z_tb C) {idx : Nat} (h : Cond.methodLink own idx zy34 ∈ lw_all) (hd : decode cc pc = .ok (.invokevirtual idx, 3)) : z_SO own cc nL ini d G l C pc 3 (zo_crV 34 2 0) := so_crV 34 2 0 (T := zT0) hC zt34 (by decide) rfl (by decide) h w784 w785 w134 w786 ⟨rfl, by decide, by decide, by decide +kernel⟩ hd
theorem xc_35 (hC : z_HC l G d z_tb C) {idx : Nat} (h : Cond.methodLink own idx zy35 ∈ lw_all) (hd : decode cc pc = .ok (.invokevirtual idx, 3)) : z_SO own cc nL ini d G l C pc 3 (zo_crV 35 6 0) := so_crV 35 6 0 (T := zT0) hC zt35 (by decide) rfl (by decide) h w789 w790 w134 w791 ⟨rfl, by decide, by decide, by decide +kernel⟩ hd
theorem xc_36 (hC : z_HC l G d z_tb C) {idx : Nat} (h : Cond.methodLink own idx zy36 ∈ lw_all) (hd : decode cc pc = .ok (.invokevirtual idx, 3)) : z_SO own cc nL ini d G l C pc 3 (zo_cvV 36 2 0) := so_cvV 36 2 0 (T := zT0) hC zt36 (by decide) rfl (by decide) h w850 qs33 w134 w851 ⟨rfl, by decide, by decide, by decide +kernel⟩ hd
theorem xc_37 (hC : z_HC l G d z_tb C) {idx : Nat} (h : Cond.methodLink own idx zy37 ∈ lw_all) (hd : decode cc pc = .ok (.invokestatic idx, 3)) : z_SO own cc nL ini d G l C pc 3 (zo_crS 37 3) := so_crS 37 3 hC zt37 (by decide) h w899 w134 w900 ⟨by decide, by decide, by decide +kernel⟩ hd
theorem xc_38 (hC : z_HC l G d z_tb C) {idx : Nat} (h : Cond.methodLink own idx zy38 ∈ lw_all) (hd : decode cc pc = .ok (.invokevirtual idx, 3)) : z_SO own cc nL ini d G l C pc 3 (zo_cvV 38 2 0) := so_cvV 38 2 0 (T := zT0) hC zt38 (by decide) rfl (by decide) h w854 qs34 w134 w855 ⟨rfl, by decide, by decide, by decide +kernel⟩ hd
theorem xc_39 (hC : z_HC l G d z_tb C) {idx : Nat} (h : Cond.methodLink own idx zy39 ∈ lw_all) (hd : decode cc pc = .ok (.invokestatic idx, 3)) : z_SO own cc nL ini d G l C pc 3 (zo_crS 39 1) := so_crS 39 1 hC zt39 (by decide) h w887 w134 w888 ⟨by decide, by decide, by decide +kernel⟩ hd
theorem xc_40 (hC : z_HC l G d z_tb C) {idx : Nat} (h : Cond.methodLink own idx zy40 ∈ lw_all) (hd : decode cc pc = .ok (.invokevirtual idx, 3)) : z_SO own cc nL ini d G l C pc 3 (zo_cvV 40 2 0) := so_cvV 40 2 0 (T := zT0) hC zt40 (by decide) rfl (by decide) h w896 qs38 w134 w897 ⟨rfl, by decide, by decide, by decide +kernel⟩ hd
theorem xc_41 (hC : z_HC l G d z_tb C) {idx : Nat} (h : Cond.methodLink own idx zy41 ∈ lw_all) (hd : decode cc pc = .ok (.invokevirtual idx, 3)) : z_SO own cc nL ini d G l C pc 3 (zo_crV 41 2 0) := so_crV 41 2 0 (T := zT0) hC zt41 (by decide) rfl (by decide) h w908 qs39 w134 w909 ⟨rfl, by decide, by decide, by decide +kernel⟩ hd
theorem xc_42 (hC : z_HC l G d z_tb C) {idx : Nat} (h : Cond.methodLink own idx zy42 ∈ lw_all) (hd : decode cc pc = .ok (.invokevirtual idx, 3)) : z_SO own cc nL ini d G l C pc 3 (zo_cvV 42 1 0) := so_cvV 42 1 0 (T := zT0) hC zt42 (by decide) rfl (by decide) h w1058 qs58 w134 w1059 ⟨rfl, by decide, by decide, by decide +kernel⟩ hd
theorem xc_43 (hC : z_HC l G d z_tb C) {idx : Nat} (h : Cond.methodLink own idx zy43 ∈ lw_all) (hd : decode cc pc = .ok (.invokevirtual idx, 3)) : z_SO own cc nL ini d G l C pc 3 (zo_crV 43 0 0) := so_crV 43 0 0 (T := zT0) hC zt43 (by decide) rfl (by decide) h w635 qs6 w134 w636 ⟨rfl, by decide, by decide, by decide +kernel⟩ hd
theorem xc_44 (hC : z_HC l G d z_tb C) {idx : Nat} (h : Cond.methodLink own idx zy44 ∈ lw_all) (hd : decode cc pc = .ok (.invokevirtual idx, 3)) : z_SO own cc nL ini d G l C pc 3 (zo_cvV 44 1 0) := so_cvV 44 1 0 (T := zT0) hC zt44 (by decide) rfl (by decide) h w631 qs5 w134 w632 ⟨rfl, by decide, by decide, by decide +kernel⟩ hd
theorem xc_45 (hC : z_HC l G d z_tb C) {idx : Nat} (h : Cond.methodLink own idx zy45 ∈ lw_all) (hd : decode cc pc = .ok (.invokevirtual idx, 3)) : z_SO own cc nL ini d G l C pc 3 (zo_cvV 45 3 0) := so_cvV 45 3 0 (T := zT0) hC zt45 (by decide) rfl (by decide) h w644 qs7 w134 w645 ⟨rfl, by decide, by decide, by decide +kernel⟩ hd
theorem xc_46 (hC : z_HC l G d z_tb C) {idx : Nat} (h : Cond.methodLink own idx zy46 ∈ lw_all) (hd : decode cc pc = .ok (.invokevirtual idx, 3)) : z_SO own cc nL ini d G l C pc 3 (zo_crV 46 1 0) := so_crV 46 1 0 (T := zT0) hC zt46 (by decide) rfl (by decide) h w1041 w1042 w134 w1043 ⟨rfl, by decide, by decide, by decide +kernel⟩ hd
theorem xc_47 (hC : z_HC l G d z_tb C) {idx : Nat} (h : Cond.methodLink own idx zy47 ∈ lw_all) (hd : decode cc pc = .ok (.invokevirtual idx, 3)) : z_SO own cc nL ini d G l C pc 3 (zo_cvV 47 2 0) := so_cvV 47 2 0 (T := zT0) hC zt47 (by decide) rfl (by decide) h w916 qs41 w134 w917 ⟨rfl, by decide, by decide, by decide +kernel⟩ hd
theorem xc_48 (hC : z_HC l G d z_tb C) {idx : Nat} (h : Cond.methodLink own idx zy48 ∈ lw_all) (hd : decode cc pc = .ok (.invokevirtual idx, 3)) : z_SO own cc nL ini d G l C pc 3 (zo_cvV 48 3 0) := so_cvV 48 3 0 (T := zT0) hC zt48 (by decide) rfl (by decide) h w912 qs40 w134 w913 ⟨rfl, by decide, by decide, by decide +kernel⟩ hd
theorem xc_49 (hC : z_HC l G d z_tb C) {idx : Nat} (h : Cond.methodLink own idx zy49 ∈ lw_all) (hd : decode cc pc = .ok (.invokevirtual idx, 3)) : z_SO own cc nL ini d G l C pc 3 (zo_cvV 49 0 0) := so_cvV 49 0 0 (T := zT0) hC zt49 (by decide) rfl (by decide) h w931 qs44 w134 w932 ⟨rfl, by decide, by decide, by decide +kernel⟩ hd
theorem xc_50 (hC : z_HC l G d z_tb C) {idx : Nat} (h : Cond.methodLink own idx zy50 ∈ lw_all) (hd : decode cc pc = .ok (.invokevirtual idx, 3)) : z_SO own cc nL ini d G l C pc 3 (zo_cvV 50 0 0) := so_cvV 50 0 0 (T := zT0) hC zt50 (by decide) rfl (by decide) h w935 qs45 w134 w936 ⟨rfl, by decide, by decide, by decide +kernel⟩ hd
theorem xc_51 (hC : z_HC l G d z_tb C) {idx : Nat} (h : Cond.methodLink own idx zy51 ∈ lw_all) (hd : decode cc pc = .ok (.invokevirtual idx, 3)) : z_SO own cc nL ini d G l C pc 3 (zo_crV 51 1 0) := so_crV 51 1 0 (T := zT0) hC zt51 (by decide) rfl (by decide) h w927 qs43 w134 w928 ⟨rfl, by decide, by decide, by decide +kernel⟩ hd
theorem xc_52 (hC : z_HC l G d z_tb C) {idx : Nat} (h : Cond.methodLink own idx zy52 ∈ lw_all) (hd : decode cc pc = .ok (.invokevirtual idx, 3)) : z_SO own cc nL ini d G l C pc 3 (zo_cvV 52 1 0) := so_cvV 52 1 0 (T := zT0) hC zt52 (by decide) rfl (by decide) h w1038 qs56 w134 w1039 ⟨rfl, by decide, by decide, by decide +kernel⟩ hd
theorem xc_53 (hC : z_HC l G d z_tb C) {idx : Nat} (h : Cond.methodLink own idx zy53 ∈ lw_all) (hd : decode cc pc = .ok (.invokevirtual idx, 3)) : z_SO own cc nL ini d G l C pc 3 (zo_cvV 53 3 0) := so_cvV 53 3 0 (T := zT0) hC zt53 (by decide) rfl (by decide) h w923 qs42 w134 w924 ⟨rfl, by decide, by decide, by decide +kernel⟩ hd
theorem xc_54 (hC : z_HC l G d z_tb C) {idx : Nat} (h : Cond.methodLink own idx zy54 ∈ lw_all) (hd : decode cc pc = .ok (.invokestatic idx, 3)) : z_SO own cc nL ini d G l C pc 3 (zo_crS 54 2) := so_crS 54 2 hC zt54 (by decide) h w993 w134 w994 ⟨by decide, by decide, by decide +kernel⟩ hd
theorem xc_55 (hC : z_HC l G d z_tb C) {idx : Nat} (h : Cond.methodLink own idx zy55 ∈ lw_all) (hd : decode cc pc = .ok (.invokestatic idx, 3)) : z_SO own cc nL ini d G l C pc 3 (zo_crS 55 2) := so_crS 55 2 hC zt55 (by decide) h w948 w134 w949 ⟨by decide, by decide, by decide +kernel⟩ hd
theorem xc_56 (hC : z_HC l G d z_tb C) {idx : Nat} (h : Cond.methodLink own idx zy56 ∈ lw_all) (hd : decode cc pc = .ok (.invokevirtual idx, 3)) : z_SO own cc nL ini d G l C pc 3 (zo_crV 56 1 0) := so_crV 56 1 0 (T := zT0) hC zt56 (by decide) rfl (by decide) h w967 qs49 w134 w968 ⟨rfl, by decide, by decide, by decide +kernel⟩ hd
theorem xc_57 (hC : z_HC l G d z_tb C) {idx : Nat} (h : Cond.methodLink own idx zy57 ∈ lw_all) (hd : decode cc pc = .ok (.invokevirtual idx, 3)) : z_SO own cc nL ini d G l C pc 3 (zo_crV 57 1 0) := so_crV 57 1 0 (T := zT0) hC zt57 (by decide) rfl (by decide) h w961 qs48 w134 w962 ⟨rfl, by decide, by decide, by decide +kernel⟩ hd
theorem xc_58 (hC : z_HC l G d z_tb C) {idx : Nat} (h : Cond.methodLink own idx zy58 ∈ lw_all) (hd : decode cc pc = .ok (.invokevirtual idx, 3)) : z_SO own cc nL ini d G l C pc 3 (zo_crV 58 1 0) := so_crV 58 1 0 (T := zT0) hC zt58 (by decide) rfl (by decide) h w971 qs50 w134 w972 ⟨rfl, by decide, by decide, by decide +kernel⟩ hd
theorem xc_59 (hC : z_HC l G d z_tb C) {idx : Nat} (h : Cond.methodLink own idx zy59 ∈ lw_all) (hd : decode cc pc = .ok (.invokevirtual idx, 3)) : z_SO own cc nL ini d G l C pc 3 (zo_crV 59 2 0) := so_crV 59 2 0 (T := zT0) hC zt59 (by decide) rfl (by decide) h w941 qs46 w134 w942 ⟨rfl, by decide, by decide, by decide +kernel⟩ hd
theorem xc_60 (hC : z_HC l G d z_tb C) {idx : Nat} (h : Cond.methodLink own idx zy60 ∈ lw_all) (hd : decode cc pc = .ok (.invokestatic idx, 3)) : z_SO own cc nL ini d G l C pc 3 (zo_cvS 60 3) := so_cvS 60 3 hC zt60 (by decide) h w986 w134 w987 ⟨by decide, by decide, by decide +kernel⟩ hd
theorem xc_61 (hC : z_HC l G d z_tb C) {idx : Nat} (h : Cond.methodLink own idx zy61 ∈ lw_all) (hd : decode cc pc = .ok (.invokevirtual idx, 3)) : z_SO own cc nL ini d G l C pc 3 (zo_crV 61 2 0) := so_crV 61 2 0 (T := zT0) hC zt61 (by decide) rfl (by decide) h w990 qs51 w134 w991 ⟨rfl, by decide, by decide, by decide +kernel⟩ hd
theorem xc_62 (hC : z_HC l G d z_tb C) {idx : Nat} (h : Cond.methodLink own idx zy62 ∈ lw_all) (hd : decode cc pc = .ok (.invokevirtual idx, 3)) : z_SO own cc nL ini d G l C pc 3 (zo_crV 62 2 0) := so_crV 62 2 0 (T := zT0) hC zt62 (by decide) rfl (by decide) h w957 qs47 w134 w958 ⟨rfl, by decide, by decide, by decide +kernel⟩ hd
theorem xc_63 (hC : z_HC l G d z_tb C) {idx : Nat} (h : Cond.methodLink own idx zy63 ∈ lw_all) (hd : decode cc pc = .ok (.invokestatic idx, 3)) : z_SO own cc nL ini d G l C pc 3 (zo_crS 63 1) := so_crS 63 1 hC zt63 (by decide) h w1008 w134 w1009 ⟨by decide, by decide, by decide +kernel⟩ hd
theorem xc_64 (hC : z_HC l G d z_tb C) {idx : Nat} (h : Cond.methodLink own idx zy64 ∈ lw_all) (hd : decode cc pc = .ok (.invokevirtual idx, 3)) : z_SO own cc nL ini d G l C pc 3 (zo_crV 64 2 0) := so_crV 64 2 0 (T := zT0) hC zt64 (by decide) rfl (by decide) h w1005 qs52 w134 w1006 ⟨rfl, by decide, by decide, by decide +kernel⟩ hd
theorem xc_65 (hC : z_HC l G d z_tb C) {idx : Nat} (h : Cond.methodLink own idx zy65 ∈ lw_all) (hd : decode cc pc = .ok (.invokevirtual idx, 3)) : z_SO own cc nL ini d G l C pc 3 (zo_cvV 65 1 0) := so_cvV 65 1 0 (T := zT0) hC zt65 (by decide) rfl (by decide) h w1024 qs54 w134 w1025 ⟨rfl, by decide, by decide, by decide +kernel⟩ hd
theorem xc_66 (hC : z_HC l G d z_tb C) {idx : Nat} (h : Cond.methodLink own idx zy66 ∈ lw_all) (hd : decode cc pc = .ok (.invokevirtual idx, 3)) : z_SO own cc nL ini d G l C pc 3 (zo_crV 66 1 0) := so_crV 66 1 0 (T := zT0) hC zt66 (by decide) rfl (by decide) h w1020 qs53 w134 w1021 ⟨rfl, by decide, by decide, by decide +kernel⟩ hd
theorem xc_67 (hC : z_HC l G d z_tb C) {idx : Nat} (h : Cond.methodLink own idx zy67 ∈ lw_all) (hd : decode cc pc = .ok (.invokevirtual idx, 3)) : z_SO own cc nL ini d G l C pc 3 (zo_crV 67 2 0) := so_crV 67 2 0 (T := zT0) hC zt67 (by decide) rfl (by decide) h w1028 qs55 w134 w1029 ⟨rfl, by decide, by decide, by decide +kernel⟩ hd
theorem xc_68 (hC : z_HC l G d z_tb C) {idx : Nat} (h : Cond.methodLink own idx zy68 ∈ lw_all) (hd : decode cc pc = .ok (.invokevirtual idx, 3)) : z_SO own cc nL ini d G l C pc 3 (zo_crV 68 0 0) := so_crV 68 0 0 (T := zT0) hC zt68 (by decide) rfl (by decide) h w1050 qs57 w134 w1051 ⟨rfl, by decide, by decide, by decide +kernel⟩ hd
theorem xc_69 (hC : z_HC l G d z_tb C) {idx : Nat} (h : Cond.methodLink own idx zy69 ∈ lw_all) (hd : decode cc pc = .ok (.invokevirtual idx, 3)) : z_SO own cc nL ini d G l C pc 3 (zo_crV 69 0 0) := so_crV 69 0 0 (T := zT0) hC zt69 (by decide) rfl (by decide) h w1062 qs59 w134 w1063 ⟨rfl, by decide, by decide, by decide +kernel⟩ hd
theorem xc_70 (hC : z_HC l G d z_tb C) {idx : Nat} (h : Cond.methodLink own idx zy70 ∈ lw_all) (hd : decode cc pc = .ok (.invokevirtual idx, 3)) : z_SO own cc nL ini d G l C pc 3 (zo_crV 70 1 0) := so_crV 70 1 0 (T := zT0) hC zt70 (by decide) rfl (by decide) h w1045 w1046 w134 w1047 ⟨rfl, by decide, by decide, by decide +kernel⟩ hd
theorem xc_71 (hC : z_HC l G d z_tb C) {idx : Nat} (h : Cond.methodLink own idx zy71 ∈ lw_all) (hd : decode cc pc = .ok (.invokevirtual idx, 3)) : z_SO own cc nL ini d G l C pc 3 (zo_crV 71 0 0) := so_crV 71 0 0 (T := zT0) hC zt71 (by decide) rfl (by decide) h w1065 w1066 w134 w1067 ⟨rfl, by decide, by decide, by decide +kernel⟩ hd
theorem xc_72 (hC : z_HC l G d z_tb C) {idx : Nat} (h : Cond.methodLink own idx zy72 ∈ lw_all) (hd : decode cc pc = .ok (.invokevirtual idx, 3)) : z_SO own cc nL ini d G l C pc 3 (zo_crV 72 1 0) := so_crV 72 1 0 (T := zT0) hC zt72 (by decide) rfl (by decide) h w1069 w1070 w134 w1071 ⟨rfl, by decide, by decide, by decide +kernel⟩ hd
theorem xc_73 (hC : z_HC l G d z_tb C) {idx : Nat} (h : Cond.methodLink own idx zy73 ∈ lw_all) (hd : decode cc pc = .ok (.invokevirtual idx, 3)) : z_SO own cc nL ini d G l C pc 3 (zo_crV 73 1 0) := so_crV 73 1 0 (T := zT0) hC zt73 (by decide) rfl (by decide) h w1077 w1078 w134 w1079 ⟨rfl, by decide, by decide, by decide +kernel⟩ hd
theorem xc_74 (hC : z_HC l G d z_tb C) {idx : Nat} (h : Cond.methodLink own idx zy74 ∈ lw_all) (hd : decode cc pc = .ok (.invokevirtual idx, 3)) : z_SO own cc nL ini d G l C pc 3 (zo_crV 74 2 0) := so_crV 74 2 0 (T := zT0) hC zt74 (by decide) rfl (by decide) h w1081 w1082 w134 w1083 ⟨rfl, by decide, by decide, by decide +kernel⟩ hd
theorem xc_75 (hC : z_HC l G d z_tb C) {idx : Nat} (h : Cond.methodLink own idx zy75 ∈ lw_all) (hd : decode cc pc = .ok (.invokevirtual idx, 3)) : z_SO own cc nL ini d G l C pc 3 (zo_crV 75 2 0) := so_crV 75 2 0 (T := zT0) hC zt75 (by decide) rfl (by decide) h w1085 w1086 w134 w1087 ⟨rfl, by decide, by decide, by decide +kernel⟩ hd
theorem xc_76 (hC : z_HC l G d z_tb C) {idx : Nat} (h : Cond.methodLink own idx zy76 ∈ lw_all) (hd : decode cc pc = .ok (.invokevirtual idx, 3)) : z_SO own cc nL ini d G l C pc 3 (zo_crV 76 2 0) := so_crV 76 2 0 (T := zT0) hC zt76 (by decide) rfl (by decide) h w1089 w1090 w134 w1091 ⟨rfl, by decide, by decide, by decide +kernel⟩ hd
theorem xc_77 (hC : z_HC l G d z_tb C) {idx : Nat} (h : Cond.methodLink own idx zy77 ∈ lw_all) (hd : decode cc pc = .ok (.invokevirtual idx, 3)) : z_SO own cc nL ini d G l C pc 3 (zo_crV 77 2 0) := so_crV 77 2 0 (T := zT0) hC zt77 (by decide) rfl (by decide) h w1117 w1118 w134 w1119 ⟨rfl, by decide, by decide, by decide +kernel⟩ hd
theorem xc_78 (hC : z_HC l G d z_tb C) {idx : Nat} (h : Cond.methodLink own idx zy78 ∈ lw_all) (hd : decode cc pc = .ok (.invokevirtual idx, 3)) : z_SO own cc nL ini d G l C pc 3 (zo_crV 78 0 0) := so_crV 78 0 0 (T := zT0) hC zt78 (by decide) rfl (by decide) h w1122 w1123 w134 w1124 ⟨rfl, by decide, by decide, by decide +kernel⟩ hd
theorem xc_79 (hC : z_HC l G d z_tb C) {idx : Nat} (h : Cond.methodLink own idx zy79 ∈ lw_all) (hd : decode cc pc = .ok (.invokevirtual idx, 3)) : z_SO own cc nL ini d G l C pc 3 (zo_crV 79 2 0) := so_crV 79 2 0 (T := zT0) hC zt79 (by decide) rfl (by decide) h w1126 w1127 w134 w1128 ⟨rfl, by decide, by decide, by decide +kernel⟩ hd
theorem xc_80 (hC : z_HC l G d z_tb C) {idx : Nat} (h : Cond.methodLink own idx zy80 ∈ lw_all) (hd : decode cc pc = .ok (.invokevirtual idx, 3)) : z_SO own cc nL ini d G l C pc 3 (zo_crV 80 1 0) := so_crV 80 1 0 (T := zT0) hC zt80 (by decide) rfl (by decide) h w1130 w1131 w134 w1132 ⟨rfl, by decide, by decide, by decide +kernel⟩ hd
theorem xc_81 (hC : z_HC l G d z_tb C) {idx : Nat} (h : Cond.methodLink own idx zy81 ∈ lw_all) (hd : decode cc pc = .ok (.invokevirtual idx, 3)) : z_SO own cc nL ini d G l C pc 3 (zo_crV 81 2 0) := so_crV 81 2 0 (T := zT0) hC zt81 (by decide) rfl (by decide) h w1134 w1135 w134 w1136 ⟨rfl, by decide, by decide, by decide +kernel⟩ hd
theorem xc_82 (hC : z_HC l G d z_tb C) {idx : Nat} (h : Cond.methodLink own idx zy82 ∈ lw_all) (hd : decode cc pc = .ok (.invokevirtual idx, 3)) : z_SO own cc nL ini d G l C pc 3 (zo_crV 82 0 0) := so_crV 82 0 0 (T := zT0) hC zt82 (by decide) rfl (by decide) h w1138 w1139 w134 w1140 ⟨rfl, by decide, by decide, by decide +kernel⟩ hd
theorem xc_83 (hC : z_HC l G d z_tb C) {idx : Nat} (h : Cond.methodLink own idx zy83 ∈ lw_all) (hd : decode cc pc = .ok (.invokevirtual idx, 3)) : z_SO own cc nL ini d G l C pc 3 (zo_crV 83 0 0) := so_crV 83 0 0 (T := zT0) hC zt83 (by decide) rfl (by decide) h w1142 w1143 w134 w1144 ⟨rfl, by decide, by decide, by decide +kernel⟩ hd
theorem xc_84 (hC : z_HC l G d z_tb C) {idx : Nat} (h : Cond.methodLink own idx zy84 ∈ lw_all) (hd : decode cc pc = .ok (.invokespecial idx, 3)) : z_SO own cc nL ini d G l C pc 3 (zo_cvV 84 0 8) := so_cvI 84 0 8 (T := zT8) hC zt84 (by decide) rfl (by decide) h w1148 w144 w1149 rfl ⟨by decide, by decide, by decide +kernel⟩ hd
theorem xc_85 (hC : z_HC l G d z_tb C) {idx : Nat} (h : Cond.methodLink own idx zy85 ∈ lw_all) (hd : decode cc pc = .ok (.invokestatic idx, 3)) : z_SO own cc nL ini d G l C pc 3 (zo_crS 85 3) := so_crS 85 3 hC zt85 (by decide) h w1536 w144 w1537 ⟨by decide, by decide, by decide +kernel⟩ hd
theorem xc_86 (hC : z_HC l G d z_tb C) {idx : Nat} (h : Cond.methodLink own idx zy86 ∈ lw_all) (hd : decode cc pc = .ok (.invokestatic idx, 3)) : z_SO own cc nL ini d G l C pc 3 (zo_crS 86 1) := so_crS 86 1 hC zt86 (by decide) h w1435 w144 w1436 ⟨by decide, by decide, by decide +kernel⟩ hd
theorem xc_87 (hC : z_HC l G d z_tb C) {idx : Nat} (h : Cond.methodLink own idx zy87 ∈ lw_all) (hd : decode cc pc = .ok (.invokevirtual idx, 3)) : z_SO own cc nL ini d G l C pc 3 (zo_crV 87 1 8) := so_crV 87 1 8 (T := zT8) hC zt87 (by decide) rfl (by decide) h w1431 w1432 w144 w1433 ⟨rfl, by decide, by decide, by decide +kernel⟩ hd
theorem xc_88 (hC : z_HC l G d z_tb C) {idx : Nat} (h : Cond.methodLink own idx zy88 ∈ lw_all) (hd : decode cc pc = .ok (.invokevirtual idx, 3)) : z_SO own cc nL ini d G l C pc 3 (zo_crV 88 0 8) := so_crV 88 0 8 (T := zT8) hC zt88 (by decide) rfl (by decide) h w1438 w1439 w144 w1440 ⟨rfl, by decide, by decide, by decide +kernel⟩ hd
theorem xc_89 (hC : z_HC l G d z_tb C) {idx : Nat} (h : Cond.methodLink own idx zy89 ∈ lw_all) (hd : decode cc pc = .ok (.invokevirtual idx, 3)) : z_SO own cc nL ini d G l C pc 3 (zo_crV 89 1 8) := so_crV 89 1 8 (T := zT8) hC zt89 (by decide) rfl (by decide) h w1442 w1443 w144 w1444 ⟨rfl, by decide, by decide, by decide +kernel⟩ hd
theorem xc_90 (hC : z_HC l G d z_tb C) {idx : Nat} (h : Cond.methodLink own idx zy90 ∈ lw_all) (hd : decode cc pc = .ok (.invokevirtual idx, 3)) : z_SO own cc nL ini d G l C pc 3 (zo_crV 90 1 8) := so_crV 90 1 8 (T := zT8) hC zt90 (by decide) rfl (by decide) h w1570 qs86 w144 w1571 ⟨rfl, by decide, by decide, by decide +kernel⟩ hd
theorem xc_91 (hC : z_HC l G d z_tb C) {idx : Nat} (h : Cond.methodLink own idx zy91 ∈ lw_all) (hd : decode cc pc = .ok (.invokevirtual idx, 3)) : z_SO own cc nL ini d G l C pc 3 (zo_cvV 91 2 8) := so_cvV 91 2 8 (T := zT8) hC zt91 (by decide) rfl (by decide) h w1479 qs67 w144 w1480 ⟨rfl, by decide, by decide, by decide +kernel⟩ hd
theorem xc_92 (hC : z_HC l G d z_tb C) {idx : Nat} (h : Cond.methodLink own idx zy92 ∈ lw_all) (hd : decode cc pc = .ok (.invokevirtual idx, 3)) : z_SO own cc nL ini d G l C pc 3 (zo_cvV 92 5 8) := so_cvV 92 5 8 (T := zT8) hC zt92 (by decide) rfl (by decide) h w1475 qs66 w144 w1476 ⟨rfl, by decide, by decide, by decide +kernel⟩ hd
theorem xc_93 (hC : z_HC l G d z_tb C) {idx : Nat} (h : Cond.methodLink own idx zy93 ∈ lw_all) (hd : decode cc pc = .ok (.invokevirtual idx, 3)) : z_SO own cc nL ini d G l C pc 3 (zo_cvV 93 2 8) := so_cvV 93 2 8 (T := zT8) hC zt93 (by decide) rfl (by decide) h w1491 qs70 w144 w1492 ⟨rfl, by decide, by decide, by decide +kernel⟩ hd
theorem xc_94 (hC : z_HC l G d z_tb C) {idx : Nat} (h : Cond.methodLink own idx zy94 ∈ lw_all) (hd : decode cc pc = .ok (.invokevirtual idx, 3)) : z_SO own cc nL ini d G l C pc 3 (zo_cvV 94 2 8) := so_cvV 94 2 8 (T := zT8) hC zt94 (by decide) rfl (by decide) h w1500 qs72 w144 w1501 ⟨rfl, by decide, by decide, by decide +kernel⟩ hd
theorem xc_95 (hC : z_HC l G d z_tb C) {idx : Nat} (h : Cond.methodLink own idx zy95 ∈ lw_all) (hd : decode cc pc = .ok (.invokevirtual idx, 3)) : z_SO own cc nL ini d G l C pc 3 (zo_cvV 95 0 8) := so_cvV 95 0 8 (T := zT8) hC zt95 (by decide) rfl (by decide) h w1495 qs71 w144 w1496 ⟨rfl, by decide, by decide, by decide +kernel⟩ hd
theorem xc_96 (hC : z_HC l G d z_tb C) {idx : Nat} (h : Cond.methodLink own idx zy96 ∈ lw_all) (hd : decode cc pc = .ok (.invokevirtual idx, 3)) : z_SO own cc nL ini d G l C pc 3 (zo_cvV 96 4 8) := so_cvV 96 4 8 (T := zT8) hC zt96 (by decide) rfl (by decide) h w1487 qs69 w144 w1488 ⟨rfl, by decide, by decide, by decide +kernel⟩ hd
theorem xc_97 (hC : z_HC l G d z_tb C) {idx : Nat} (h : Cond.methodLink own idx zy97 ∈ lw_all) (hd : decode cc pc = .ok (.invokevirtual idx, 3)) : z_SO own cc nL ini d G l C pc 3 (zo_cvV 97 0 8) := so_cvV 97 0 8 (T := zT8) hC zt97 (by decide) rfl (by decide) h w1483 qs68 w144 w1484 ⟨rfl, by decide, by decide, by decide +kernel⟩ hd
theorem xc_98 (hC : z_HC l G d z_tb C) {idx : Nat} (h : Cond.methodLink own idx zy98 ∈ lw_all) (hd : decode cc pc = .ok (.invokevirtual idx, 3)) : z_SO own cc nL ini d G l C pc 3 (zo_cvV 98 0 8) := so_cvV 98 0 8 (T := zT8) hC zt98 (by decide) rfl (by decide) h w1556 qs83 w144 w1557 ⟨rfl, by decide, by decide, by decide +kernel⟩ hd
theorem xc_99 (hC : z_HC l G d z_tb C) {idx : Nat} (h : Cond.methodLink own idx zy99 ∈ lw_all) (hd : decode cc pc = .ok (.invokevirtual idx, 3)) : z_SO own cc nL ini d G l C pc 3 (zo_cvV 99 1 8) := so_cvV 99 1 8 (T := zT8) hC zt99 (by decide) rfl (by decide) h w1508 qs74 w144 w1509 ⟨rfl, by decide, by decide, by decide +kernel⟩ hd
theorem xc_100 (hC : z_HC l G d z_tb C) {idx : Nat} (h : Cond.methodLink own idx zy100 ∈ lw_all) (hd : decode cc pc = .ok (.invokevirtual idx, 3)) : z_SO own cc nL ini d G l C pc 3 (zo_crV 100 0 8) := so_crV 100 0 8 (T := zT8) hC zt100 (by decide) rfl (by decide) h w1471 qs65 w144 w1472 ⟨rfl, by decide, by decide, by decide +kernel⟩ hd
theorem xc_101 (hC : z_HC l G d z_tb C) {idx : Nat} (h : Cond.methodLink own idx zy101 ∈ lw_all) (hd : decode cc pc = .ok (.invokevirtual idx, 3)) : z_SO own cc nL ini d G l C pc 3 (zo_crV 101 1 8) := so_crV 101 1 8 (T := zT8) hC zt101 (by decide) rfl (by decide) h w1504 qs73 w144 w1505 ⟨rfl, by decide, by decide, by decide +kernel⟩ hd
theorem xc_102 (hC : z_HC l G d z_tb C) {idx : Nat} (h : Cond.methodLink own idx zy102 ∈ lw_all) (hd : decode cc pc = .ok (.invokevirtual idx, 3)) : z_SO own cc nL ini d G l C pc 3 (zo_cvV 102 1 8) := so_cvV 102 1 8 (T := zT8) hC zt102 (by decide) rfl (by decide) h w1562 qs84 w144 w1563 ⟨rfl, by decide, by decide, by decide +kernel⟩ hd
theorem xc_103 (hC : z_HC l G d z_tb C) {idx : Nat} (h : Cond.methodLink own idx zy103 ∈ lw_all) (hd : decode cc pc = .ok (.invokevirtual idx, 3)) : z_SO own cc nL ini d G l C pc 3 (zo_cvV 103 1 8) := so_cvV 103 1 8 (T := zT8) hC zt103 (by decide) rfl (by decide) h w1467 qs64 w144 w1468 ⟨rfl, by decide, by decide, by decide +kernel⟩ hd
theorem xc_104 (hC : z_HC l G d z_tb C) {idx : Nat} (h : Cond.methodLink own idx zy104 ∈ lw_all) (hd : decode cc pc = .ok (.invokevirtual idx, 3)) : z_SO own cc nL ini d G l C pc 3 (zo_cvV 104 2 8) := so_cvV 104 2 8 (T := zT8) hC zt104 (by decide) rfl (by decide) h w1775 qs131 w144 w1776 ⟨rfl, by decide, by decide, by decide +kernel⟩ hd
theorem xc_105 (hC : z_HC l G d z_tb C) {idx : Nat} (h : Cond.methodLink own idx zy105 ∈ lw_all) (hd : decode cc pc = .ok (.invokevirtual idx, 3)) : z_SO own cc nL ini d G l C pc 3 (zo_crV 105 1 8) := so_crV 105 1 8 (T := zT8) hC zt105 (by decide) rfl (by decide) h w1582 qs88 w144 w1583 ⟨rfl, by decide, by decide, by decide +kernel⟩ hd
theorem xc_106 (hC : z_HC l G d z_tb C) {idx : Nat} (h : Cond.methodLink own idx zy106 ∈ lw_all) (hd : decode cc pc = .ok (.invokevirtual idx, 3)) : z_SO own cc nL ini d G l C pc 3 (zo_crV 106 1 8) := so_crV 106 1 8 (T := zT8) hC zt106 (by decide) rfl (by decide) h w1594 qs91 w144 w1595 ⟨rfl, by decide, by decide, by decide +kernel⟩ hd
theorem xc_107 (hC : z_HC l G d z_tb C) {idx : Nat} (h : Cond.methodLink own idx zy107 ∈ lw_all) (hd : decode cc pc = .ok (.invokevirtual idx, 3)) : z_SO own cc nL ini d G l C pc 3 (zo_crV 107 1 8) := so_crV 107 1 8 (T := zT8) hC zt107 (by decide) rfl (by decide) h w1578 qs87 w144 w1579 ⟨rfl, by decide, by decide, by decide +kernel⟩ hd
theorem xc_108 (hC : z_HC l G d z_tb C) {idx : Nat} (h : Cond.methodLink own idx zy108 ∈ lw_all) (hd : decode cc pc = .ok (.invokevirtual idx, 3)) : z_SO own cc nL ini d G l C pc 3 (zo_crV 108 1 8) := so_crV 108 1 8 (T := zT8) hC zt108 (by decide) rfl (by decide) h w1701 qs116 w144 w1702 ⟨rfl, by decide, by decide, by decide +kernel⟩ hd
theorem xc_109 (hC : z_HC l G d z_tb C) {idx : Nat} (h : Cond.methodLink own idx zy109 ∈ lw_all) (hd : decode cc pc = .ok (.invokestatic idx, 3)) : z_SO own cc nL ini d G l C pc 3 (zo_crS 109 1) := so_crS 109 1 hC zt109 (by decide) h w1609 w144 w1610 ⟨by decide, by decide, by decide +kernel⟩ hd
theorem xc_110 (hC : z_HC l G d z_tb C) {idx : Nat} (h : Cond.methodLink own idx zy110 ∈ lw_all) (hd : decode cc pc = .ok (.invokestatic idx, 3)) : z_SO own cc nL ini d G l C pc 3 (zo_crS 110 2) := so_crS 110 2 hC zt110 (by decide) h w1612 w144 w1613 ⟨by decide, by decide, by decide +kernel⟩ hd
theorem xc_111 (hC : z_HC l G d z_tb C) {idx : Nat} (h : Cond.methodLink own idx zy111 ∈ lw_all) (hd : decode cc pc = .ok (.invokevirtual idx, 3)) : z_SO own cc nL ini d G l C pc 3 (zo_cvV 111 2 8) := so_cvV 111 2 8 (T := zT8) hC zt111 (by decide) rfl (by decide) h w1606 qs94 w144 w1607 ⟨rfl, by decide, by decide, by decide +kernel⟩ hd
theorem xc_112 (hC : z_HC l G d z_tb C) {idx : Nat} (h : Cond.methodLink own idx zy112 ∈ lw_all) (hd : decode cc pc = .ok (.invokevirtual idx, 3)) : z_SO own cc nL ini d G l C pc 3 (zo_cvV 112 4 8) := so_cvV 112 4 8 (T := zT8) hC zt112 (by decide) rfl (by decide) h w1616 qs95 w144 w1617 ⟨rfl, by decide, by decide, by decide +kernel⟩ hd
theorem xc_113 (hC : z_HC l G d z_tb C) {idx : Nat} (h : Cond.methodLink own idx zy113 ∈ lw_all) (hd : decode cc pc = .ok (.invokevirtual idx, 3)) : z_SO own cc nL ini d G l C pc 3 (zo_crV 113 2 8) := so_crV 113 2 8 (T := zT8) hC zt113 (by decide) rfl (by decide) h w1620 qs96 w144 w1621 ⟨rfl, by decide, by decide, by decide +kernel⟩ hd
theorem xc_114 (hC : z_HC l G d z_tb C) {idx : Nat} (h : Cond.methodLink own idx zy114 ∈ lw_all) (hd : decode cc pc = .ok (.invokevirtual idx, 3)) : z_SO own cc nL ini d G l C pc 3 (zo_cvV 114 0 8) := so_cvV 114 0 8 (T := zT8) hC zt114 (by decide) rfl (by decide) h w1602 qs93 w144 w1603 ⟨rfl, by decide, by decide, by decide +kernel⟩ hd
theorem xc_115 (hC : z_HC l G d z_tb C) {idx : Nat} (h : Cond.methodLink own idx zy115 ∈ lw_all) (hd : decode cc pc = .ok (.invokevirtual idx, 3)) : z_SO own cc nL ini d G l C pc 3 (zo_crV 115 0 8) := so_crV 115 0 8 (T := zT8) hC zt115 (by decide) rfl (by decide) h w1598 qs92 w144 w1599 ⟨rfl, by decide, by decide, by decide +kernel⟩ hd
theorem xc_116 (hC : z_HC l G d z_tb C) {idx : Nat} (h : Cond.methodLink own idx zy116 ∈ lw_all) (hd : decode cc pc = .ok (.invokevirtual idx, 3)) : z_SO own cc nL ini d G l C pc 3 (zo_crV 116 1 8) := so_crV 116 1 8 (T := zT8) hC zt116 (by decide) rfl (by decide) h w1628 qs98 w144 w1629 ⟨rfl, by decide, by decide, by decide +kernel⟩ hd
theorem xc_117 (hC : z_HC l G d z_tb C) {idx : Nat} (h : Cond.methodLink own idx zy117 ∈ lw_all) (hd : decode cc pc = .ok (.invokevirtual idx, 3)) : z_SO own cc nL ini d G l C pc 3 (zo_cvV 117 1 8) := so_cvV 117 1 8 (T := zT8) hC zt117 (by decide) rfl (by decide) h w1590 qs90 w144 w1591 ⟨rfl, by decide, by decide, by decide +kernel⟩ hd
theorem xc_118 (hC : z_HC l G d z_tb C) {idx : Nat} (h : Cond.methodLink own idx zy118 ∈ lw_all) (hd : decode cc pc = .ok (.invokevirtual idx, 3)) : z_SO own cc nL ini d G l C pc 3 (zo_cvV 118 0 8) := so_cvV 118 0 8 (T := zT8) hC zt118 (by decide) rfl (by decide) h w1624 qs97 w144 w1625 ⟨rfl, by decide, by decide, by decide +kernel⟩ hd
theorem xc_119 (hC : z_HC l G d z_tb C) {idx : Nat} (h : Cond.methodLink own idx zy119 ∈ lw_all) (hd : decode cc pc = .ok (.invokevirtual idx, 3)) : z_SO own cc nL ini d G l C pc 3 (zo_crV 119 4 8) := so_crV 119 4 8 (T := zT8) hC zt119 (by decide) rfl (by decide) h w1644 qs102 w144 w1645 ⟨rfl, by decide, by decide, by decide +kernel⟩ hd
theorem xc_120 (hC : z_HC l G d z_tb C) {idx : Nat} (h : Cond.methodLink own idx zy120 ∈ lw_all) (hd : decode cc pc = .ok (.invokevirtual idx, 3)) : z_SO own cc nL ini d G l C pc 3 (zo_cvV 120 1 8) := so_cvV 120 1 8 (T := zT8) hC zt120 (by decide) rfl (by decide) h w1640 qs101 w144 w1641 ⟨rfl, by decide, by decide, by decide +kernel⟩ hd
theorem xc_121 (hC : z_HC l G d z_tb C) {idx : Nat} (h : Cond.methodLink own idx zy121 ∈ lw_all) (hd : decode cc pc = .ok (.invokevirtual idx, 3)) : z_SO own cc nL ini d G l C pc 3 (zo_cvV 121 1 8) := so_cvV 121 1 8 (T := zT8) hC zt121 (by decide) rfl (by decide) h w1636 qs100 w144 w1637 ⟨rfl, by decide, by decide, by decide +kernel⟩ hd
theorem xc_122 (hC : z_HC l G d z_tb C) {idx : Nat} (h : Cond.methodLink own idx zy122 ∈ lw_all) (hd : decode cc pc = .ok (.invokevirtual idx, 3)) : z_SO own cc nL ini d G l C pc 3 (zo_cvV 122 2 8) := so_cvV 122 2 8 (T := zT8) hC zt122 (by decide) rfl (by decide) h w1648 qs103 w144 w1649 ⟨rfl, by decide, by decide, by decide +kernel⟩ hd
theorem xc_123 (hC : z_HC l G d z_tb C) {idx : Nat} (h : Cond.methodLink own idx zy123 ∈ lw_all) (hd : decode cc pc = .ok (.invokevirtual idx, 3)) : z_SO own cc nL ini d G l C pc 3 (zo_cvV 123 1 8) := so_cvV 123 1 8 (T := zT8) hC zt123 (by decide) rfl (by decide) h w1552 qs82 w144 w1553 ⟨rfl, by decide, by decide, by decide +kernel⟩ hd
theorem xc_124 (hC : z_HC l G d z_tb C) {idx : Nat} (h : Cond.methodLink own idx zy124 ∈ lw_all) (hd : decode cc pc = .ok (.invokevirtual idx, 3)) : z_SO own cc nL ini d G l C pc 3 (zo_cvV 124 1 8) := so_cvV 124 1 8 (T := zT8) hC zt124 (by decide) rfl (by decide) h w1544 qs80 w144 w1545 ⟨rfl, by decide, by decide, by decide +kernel⟩ hd
theorem xc_125 (hC : z_HC l G d z_tb C) {idx : Nat} (h : Cond.methodLink own idx zy125 ∈ lw_all) (hd : decode cc pc = .ok (.invokevirtual idx, 3)) : z_SO own cc nL ini d G l C pc 3 (zo_crV 125 1 8) := so_crV 125 1 8 (T := zT8) hC zt125 (by decide) rfl (by decide) h w1459 qs62 w144 w1460 ⟨rfl, by decide, by decide, by decide +kernel⟩ hd
theorem xc_126 (hC : z_HC l G d z_tb C) {idx : Nat} (h : Cond.methodLink own idx zy126 ∈ lw_all) (hd : decode cc pc = .ok (.invokevirtual idx, 3)) : z_SO own cc nL ini d G l C pc 3 (zo_cvV 126 2 8) := so_cvV 126 2 8 (T := zT8) hC zt126 (by decide) rfl (by decide) h w1463 qs63 w144 w1464 ⟨rfl, by decide, by decide, by decide +kernel⟩ hd
theorem xc_127 (hC : z_HC l G d z_tb C) {idx : Nat} (h : Cond.methodLink own idx zy127 ∈ lw_all) (hd : decode cc pc = .ok (.invokevirtual idx, 3)) : z_SO own cc nL ini d G l C pc 3 (zo_cvV 127 1 8) := so_cvV 127 1 8 (T := zT8) hC zt127 (by decide) rfl (by decide) h w1548 qs81 w144 w1549 ⟨rfl, by decide, by decide, by decide +kernel⟩ hd
theorem xc_128 (hC : z_HC l G d z_tb C) {idx : Nat} (h : Cond.methodLink own idx zy128 ∈ lw_all) (hd : decode cc pc = .ok (.invokevirtual idx, 3)) : z_SO own cc nL ini d G l C pc 3 (zo_cvV 128 1 8) := so_cvV 128 1 8 (T := zT8) hC zt128 (by decide) rfl (by decide) h w1566 qs85 w144 w1567 ⟨rfl, by decide, by decide, by decide +kernel⟩ hd
theorem xc_129 (hC : z_HC l G d z_tb C) {idx : Nat} (h : Cond.methodLink own idx zy129 ∈ lw_all) (hd : decode cc pc = .ok (.invokevirtual idx, 3)) : z_SO own cc nL ini d G l C pc 3 (zo_cvV 129 1 8) := so_cvV 129 1 8 (T := zT8) hC zt129 (by decide) rfl (by decide) h w1540 qs79 w144 w1541 ⟨rfl, by decide, by decide, by decide +kernel⟩ hd
theorem xc_130 (hC : z_HC l G d z_tb C) {idx : Nat} (h : Cond.methodLink own idx zy130 ∈ lw_all) (hd : decode cc pc = .ok (.invokevirtual idx, 3)) : z_SO own cc nL ini d G l C pc 3 (zo_cvV 130 1 8) := so_cvV 130 1 8 (T := zT8) hC zt130 (by decide) rfl (by decide) h w1660 qs106 w144 w1661 ⟨rfl, by decide, by decide, by decide +kernel⟩ hd
theorem xc_131 (hC : z_HC l G d z_tb C) {idx : Nat} (h : Cond.methodLink own idx zy131 ∈ lw_all) (hd : decode cc pc = .ok (.invokevirtual idx, 3)) : z_SO own cc nL ini d G l C pc 3 (zo_crV 131 1 8) := so_crV 131 1 8 (T := zT8) hC zt131 (by decide) rfl (by decide) h w1520 qs77 w144 w1521 ⟨rfl, by decide, by decide, by decide +kernel⟩ hd
theorem xc_132 (hC : z_HC l G d z_tb C) {idx : Nat} (h : Cond.methodLink own idx zy132 ∈ lw_all) (hd : decode cc pc = .ok (.invokevirtual idx, 3)) : z_SO own cc nL ini d G l C pc 3 (zo_crV 132 0 8) := so_crV 132 0 8 (T := zT8) hC zt132 (by decide) rfl (by decide) h w1516 qs76 w144 w1517 ⟨rfl, by decide, by decide, by decide +kernel⟩ hd
theorem xc_133 (hC : z_HC l G d z_tb C) {idx : Nat} (h : Cond.methodLink own idx zy133 ∈ lw_all) (hd : decode cc pc = .ok (.invokevirtual idx, 3)) : z_SO own cc nL ini d G l C pc 3 (zo_cvV 133 2 8) := so_cvV 133 2 8 (T := zT8) hC zt133 (by decide) rfl (by decide) h w1524 qs78 w144 w1525 ⟨rfl, by decide, by decide, by decide +kernel⟩ hd
theorem xc_134 (hC : z_HC l G d z_tb C) {idx : Nat} (h : Cond.methodLink own idx zy134 ∈ lw_all) (hd : decode cc pc = .ok (.invokevirtual idx, 3)) : z_SO own cc nL ini d G l C pc 3 (zo_cvV 134 1 8) := so_cvV 134 1 8 (T := zT8) hC zt134 (by decide) rfl (by decide) h w1512 qs75 w144 w1513 ⟨rfl, by decide, by decide, by decide +kernel⟩ hd
theorem xc_135 (hC : z_HC l G d z_tb C) {idx : Nat} (h : Cond.methodLink own idx zy135 ∈ lw_all) (hd : decode cc pc = .ok (.invokevirtual idx, 3)) : z_SO own cc nL ini d G l C pc 3 (zo_crV 135 1 8) := so_crV 135 1 8 (T := zT8) hC zt135 (by decide) rfl (by decide) h w1717 qs119 w144 w1718 ⟨rfl, by decide, by decide, by decide +kernel⟩ hd
theorem xc_136 (hC : z_HC l G d z_tb C) {idx : Nat} (h : Cond.methodLink own idx zy136 ∈ lw_all) (hd : decode cc pc = .ok (.invokevirtual idx, 3)) : z_SO own cc nL ini d G l C pc 3 (zo_crV 136 0 8) := so_crV 136 0 8 (T := zT8) hC zt136 (by decide) rfl (by decide) h w1712 qs118 w144 w1713 ⟨rfl, by decide, by decide, by decide +kernel⟩ hd
theorem xc_137 (hC : z_HC l G d z_tb C) {idx : Nat} (h : Cond.methodLink own idx zy137 ∈ lw_all) (hd : decode cc pc = .ok (.invokevirtual idx, 3)) : z_SO own cc nL ini d G l C pc 3 (zo_crV 137 0 8) := so_crV 137 0 8 (T := zT8) hC zt137 (by decide) rfl (by decide) h w1721 qs120 w144 w1722 ⟨rfl, by decide, by decide, by decide +kernel⟩ hd
theorem xc_138 (hC : z_HC l G d z_tb C) {idx : Nat} (h : Cond.methodLink own idx zy138 ∈ lw_all) (hd : decode cc pc = .ok (.invokevirtual idx, 3)) : z_SO own cc nL ini d G l C pc 3 (zo_cvV 138 3 8) := so_cvV 138 3 8 (T := zT8) hC zt138 (by decide) rfl (by decide) h w1729 qs122 w144 w1730 ⟨rfl, by decide, by decide, by decide +kernel⟩ hd
theorem xc_139 (hC : z_HC l G d z_tb C) {idx : Nat} (h : Cond.methodLink own idx zy139 ∈ lw_all) (hd : decode cc pc = .ok (.invokevirtual idx, 3)) : z_SO own cc nL ini d G l C pc 3 (zo_cvV 139 4 8) := so_cvV 139 4 8 (T := zT8) hC zt139 (by decide) rfl (by decide) h w1688 qs113 w144 w1689 ⟨rfl, by decide, by decide, by decide +kernel⟩ hd
theorem xc_140 (hC : z_HC l G d z_tb C) {idx : Nat} (h : Cond.methodLink own idx zy140 ∈ lw_all) (hd : decode cc pc = .ok (.invokevirtual idx, 3)) : z_SO own cc nL ini d G l C pc 3 (zo_cvV 140 1 8) := so_cvV 140 1 8 (T := zT8) hC zt140 (by decide) rfl (by decide) h w1751 qs127 w144 w1752 ⟨rfl, by decide, by decide, by decide +kernel⟩ hd
theorem xc_141 (hC : z_HC l G d z_tb C) {idx : Nat} (h : Cond.methodLink own idx zy141 ∈ lw_all) (hd : decode cc pc = .ok (.invokevirtual idx, 3)) : z_SO own cc nL ini d G l C pc 3 (zo_crV 141 1 8) := so_crV 141 1 8 (T := zT8) hC zt141 (by decide) rfl (by decide) h w1725 qs121 w144 w1726 ⟨rfl, by decide, by decide, by decide +kernel⟩ hd
theorem xc_142 (hC : z_HC l G d z_tb C) {idx : Nat} (h : Cond.methodLink own idx zy142 ∈ lw_all) (hd : decode cc pc = .ok (.invokevirtual idx, 3)) : z_SO own cc nL ini d G l C pc 3 (zo_crV 142 2 8) := so_crV 142 2 8 (T := zT8) hC zt142 (by decide) rfl (by decide) h w1697 qs115 w144 w1698 ⟨rfl, by decide, by decide, by decide +kernel⟩ hd
theorem xc_143 (hC : z_HC l G d z_tb C) {idx : Nat} (h : Cond.methodLink own idx zy143 ∈ lw_all) (hd : decode cc pc = .ok (.invokevirtual idx, 3)) : z_SO own cc nL ini d G l C pc 3 (zo_crV 143 0 8) := so_crV 143 0 8 (T := zT8) hC zt143 (by decide) rfl (by decide) h w1737 qs124 w144 w1738 ⟨rfl, by decide, by decide, by decide +kernel⟩ hd
theorem xc_144 (hC : z_HC l G d z_tb C) {idx : Nat} (h : Cond.methodLink own idx zy144 ∈ lw_all) (hd : decode cc pc = .ok (.invokevirtual idx, 3)) : z_SO own cc nL ini d G l C pc 3 (zo_cvV 144 2 8) := so_cvV 144 2 8 (T := zT8) hC zt144 (by decide) rfl (by decide) h w1672 qs109 w144 w1673 ⟨rfl, by decide, by decide, by decide +kernel⟩ hd
theorem xc_145 (hC : z_HC l G d z_tb C) {idx : Nat} (h : Cond.methodLink own idx zy145 ∈ lw_all) (hd : decode cc pc = .ok (.invokevirtual idx, 3)) : z_SO own cc nL ini d G l C pc 3 (zo_crV 145 1 8) := so_crV 145 1 8 (T := zT8) hC zt145 (by decide) rfl (by decide) h w1692 qs114 w144 w1693 ⟨rfl, by decide, by decide, by decide +kernel⟩ hd
theorem xc_146 (hC : z_HC l G d z_tb C) {idx : Nat} (h : Cond.methodLink own idx zy146 ∈ lw_all) (hd : decode cc pc = .ok (.invokevirtual idx, 3)) : z_SO own cc nL ini d G l C pc 3 (zo_cvV 146 2 8) := so_cvV 146 2 8 (T := zT8) hC zt146 (by decide) rfl (by decide) h w1733 qs123 w144 w1734 ⟨rfl, by decide, by decide, by decide +kernel⟩ hd
theorem xc_147 (hC : z_HC l G d z_tb C) {idx : Nat} (h : Cond.methodLink own idx zy147 ∈ lw_all) (hd : decode cc pc = .ok (.invokevirtual idx, 3)) : z_SO own cc nL ini d G l C pc 3 (zo_cvV 147 1 8) := so_cvV 147 1 8 (T := zT8) hC zt147 (by decide) rfl (by decide) h w1741 qs125 w144 w1742 ⟨rfl, by decide, by decide, by decide +kernel⟩ hd
theorem xc_148 (hC : z_HC l G d z_tb C) {idx : Nat} (h : Cond.methodLink own idx zy148 ∈ lw_all) (hd : decode cc pc = .ok (.invokevirtual idx, 3)) : z_SO own cc nL ini d G l C pc 3 (zo_crV 148 1 8) := so_crV 148 1 8 (T := zT8) hC zt148 (by decide) rfl (by decide) h w1708 qs117 w144 w1709 ⟨rfl, by decide, by decide, by decide +kernel⟩ hd
theorem xc_149 (hC : z_HC l G d z_tb C) {idx : Nat} (h : Cond.methodLink own idx zy149 ∈ lw_all) (hd : decode cc pc = .ok (.invokevirtual idx, 3)) : z_SO own cc nL ini d G l C pc 3 (zo_crV 149 2 8) := so_crV 149 2 8 (T := zT8) hC zt149 (by decide) rfl (by decide) h w1746 qs126 w144 w1747 ⟨rfl, by decide, by decide, by decide +kernel⟩ hd
theorem xc_150 (hC : z_HC l G d z_tb C) {idx : Nat} (h : Cond.methodLink own idx zy150 ∈ lw_all) (hd : decode cc pc = .ok (.invokevirtual idx, 3)) : z_SO own cc nL ini d G l C pc 3 (zo_cvV 150 0 8) := so_cvV 150 0 8 (T := zT8) hC zt150 (by decide) rfl (by decide) h w1680 qs111 w144 w1681 ⟨rfl, by decide, by decide, by decide +kernel⟩ hd
theorem xc_151 (hC : z_HC l G d z_tb C) {idx : Nat} (h : Cond.methodLink own idx zy151 ∈ lw_all) (hd : decode cc pc = .ok (.invokevirtual idx, 3)) : z_SO own cc nL ini d G l C pc 3 (zo_cvV 151 0 8) := so_cvV 151 0 8 (T := zT8) hC zt151 (by decide) rfl (by decide) h w1684 qs112 w144 w1685 ⟨rfl, by decide, by decide, by decide +kernel⟩ hd
theorem xc_152 (hC : z_HC l G d z_tb C) {idx : Nat} (h : Cond.methodLink own idx zy152 ∈ lw_all) (hd : decode cc pc = .ok (.invokevirtual idx, 3)) : z_SO own cc nL ini d G l C pc 3 (zo_cvV 152 0 8) := so_cvV 152 0 8 (T := zT8) hC zt152 (by decide) rfl (by decide) h w1755 qs128 w144 w1756 ⟨rfl, by decide, by decide, by decide +kernel⟩ hd
theorem xc_153 (hC : z_HC l G d z_tb C) {idx : Nat} (h : Cond.methodLink own idx zy153 ∈ lw_all) (hd : decode cc pc = .ok (.invokevirtual idx, 3)) : z_SO own cc nL ini d G l C pc 3 (zo_crV 153 1 8) := so_crV 153 1 8 (T := zT8) hC zt153 (by decide) rfl (by decide) h w1676 qs110 w144 w1677 ⟨rfl, by decide, by decide, by decide +kernel⟩ hd
theorem xc_154 (hC : z_HC l G d z_tb C) {idx : Nat} (h : Cond.methodLink own idx zy154 ∈ lw_all) (hd : decode cc pc = .ok (.invokevirtual idx, 3)) : z_SO own cc nL ini d G l C pc 3 (zo_cvV 154 1 8) := so_cvV 154 1 8 (T := zT8) hC zt154 (by decide) rfl (by decide) h w1586 qs89 w144 w1587 ⟨rfl, by decide, by decide, by decide +kernel⟩ hd
theorem xc_155 (hC : z_HC l G d z_tb C) {idx : Nat} (h : Cond.methodLink own idx zy155 ∈ lw_all) (hd : decode cc pc = .ok (.invokevirtual idx, 3)) : z_SO own cc nL ini d G l C pc 3 (zo_cvV 155 1 8) := so_cvV 155 1 8 (T := zT8) hC zt155 (by decide) rfl (by decide) h w1632 qs99 w144 w1633 ⟨rfl, by decide, by decide, by decide +kernel⟩ hd
theorem xc_156 (hC : z_HC l G d z_tb C) {idx : Nat} (h : Cond.methodLink own idx zy156 ∈ lw_all) (hd : decode cc pc = .ok (.invokevirtual idx, 3)) : z_SO own cc nL ini d G l C pc 3 (zo_crV 156 2 8) := so_crV 156 2 8 (T := zT8) hC zt156 (by decide) rfl (by decide) h w1656 qs105 w144 w1657 ⟨rfl, by decide, by decide, by decide +kernel⟩ hd
theorem xc_157 (hC : z_HC l G d z_tb C) {idx : Nat} (h : Cond.methodLink own idx zy157 ∈ lw_all) (hd : decode cc pc = .ok (.invokevirtual idx, 3)) : z_SO own cc nL ini d G l C pc 3 (zo_cvV 157 2 8) := so_cvV 157 2 8 (T := zT8) hC zt157 (by decide) rfl (by decide) h w1763 qs130 w144 w1764 ⟨rfl, by decide, by decide, by decide +kernel⟩ hd
theorem xc_158 (hC : z_HC l G d z_tb C) {idx : Nat} (h : Cond.methodLink own idx zy158 ∈ lw_all) (hd : decode cc pc = .ok (.invokevirtual idx, 3)) : z_SO own cc nL ini d G l C pc 3 (zo_cvV 158 2 8) := so_cvV 158 2 8 (T := zT8) hC zt158 (by decide) rfl (by decide) h w1652 qs104 w144 w1653 ⟨rfl, by decide, by decide, by decide +kernel⟩ hd
theorem xc_159 (hC : z_HC l G d z_tb C) {idx : Nat} (h : Cond.methodLink own idx zy159 ∈ lw_all) (hd : decode cc pc = .ok (.invokevirtual idx, 3)) : z_SO own cc nL ini d G l C pc 3 (zo_cvV 159 2 8) := so_cvV 159 2 8 (T := zT8) hC zt159 (by decide) rfl (by decide) h w1664 qs107 w144 w1665 ⟨rfl, by decide, by decide, by decide +kernel⟩ hd
theorem xc_160 (hC : z_HC l G d z_tb C) {idx : Nat} (h : Cond.methodLink own idx zy160 ∈ lw_all) (hd : decode cc pc = .ok (.invokevirtual idx, 3)) : z_SO own cc nL ini d G l C pc 3 (zo_cvV 160 2 8) := so_cvV 160 2 8 (T := zT8) hC zt160 (by decide) rfl (by decide) h w1668 qs108 w144 w1669 ⟨rfl, by decide, by decide, by decide +kernel⟩ hd
theorem xc_161 (hC : z_HC l G d z_tb C) {idx : Nat} (h : Cond.methodLink own idx zy161 ∈ lw_all) (hd : decode cc pc = .ok (.invokevirtual idx, 3)) : z_SO own cc nL ini d G l C pc 3 (zo_cvV 161 2 8) := so_cvV 161 2 8 (T := zT8) hC zt161 (by decide) rfl (by decide) h w1759 qs129 w144 w1760 ⟨rfl, by decide, by decide, by decide +kernel⟩ hd
theorem xc_162 (hC : z_HC l G d z_tb C) {idx : Nat} (h : Cond.methodLink own idx zy162 ∈ lw_all) (hd : decode cc pc = .ok (.invokevirtual idx, 3)) : z_SO own cc nL ini d G l C pc 3 (zo_crV 162 1 8) := so_crV 162 1 8 (T := zT8) hC zt162 (by decide) rfl (by decide) h w1451 qs60 w144 w1452 ⟨rfl, by decide, by decide, by decide +kernel⟩ hd
theorem xc_163 (hC : z_HC l G d z_tb C) {idx : Nat} (h : Cond.methodLink own idx zy163 ∈ lw_all) (hd : decode cc pc = .ok (.invokevirtual idx, 3)) : z_SO own cc nL ini d G l C pc 3 (zo_crV 163 1 8) := so_crV 163 1 8 (T := zT8) hC zt163 (by decide) rfl (by decide) h w1455 qs61 w144 w1456 ⟨rfl, by decide, by decide, by decide +kernel⟩ hd
theorem xc_164 (hC : z_HC l G d z_tb C) {idx : Nat} (h : Cond.methodLink own idx zy164 ∈ lw_all) (hd : decode cc pc = .ok (.invokevirtual idx, 3)) : z_SO own cc nL ini d G l C pc 3 (zo_crV 164 1 8) := so_crV 164 1 8 (T := zT8) hC zt164 (by decide) rfl (by decide) h w1446 w1447 w144 w1448 ⟨rfl, by decide, by decide, by decide +kernel⟩ hd
theorem xc_165 (hC : z_HC l G d z_tb C) {idx : Nat} (h : Cond.methodLink own idx zy165 ∈ lw_all) (hd : decode cc pc = .ok (.invokevirtual idx, 3)) : z_SO own cc nL ini d G l C pc 3 (zo_crV 165 0 8) := so_crV 165 0 8 (T := zT8) hC zt165 (by decide) rfl (by decide) h w1528 w1529 w144 w1530 ⟨rfl, by decide, by decide, by decide +kernel⟩ hd
theorem xc_166 (hC : z_HC l G d z_tb C) {idx : Nat} (h : Cond.methodLink own idx zy166 ∈ lw_all) (hd : decode cc pc = .ok (.invokevirtual idx, 3)) : z_SO own cc nL ini d G l C pc 3 (zo_crV 166 2 8) := so_crV 166 2 8 (T := zT8) hC zt166 (by decide) rfl (by decide) h w1532 w1533 w144 w1534 ⟨rfl, by decide, by decide, by decide +kernel⟩ hd
theorem xc_167 (hC : z_HC l G d z_tb C) {idx : Nat} (h : Cond.methodLink own idx zy167 ∈ lw_all) (hd : decode cc pc = .ok (.invokevirtual idx, 3)) : z_SO own cc nL ini d G l C pc 3 (zo_crV 167 6 8) := so_crV 167 6 8 (T := zT8) hC zt167 (by decide) rfl (by decide) h w1573 w1574 w144 w1575 ⟨rfl, by decide, by decide, by decide +kernel⟩ hd
theorem xc_168 (hC : z_HC l G d z_tb C) {idx : Nat} (h : Cond.methodLink own idx zy168 ∈ lw_all) (hd : decode cc pc = .ok (.invokevirtual idx, 3)) : z_SO own cc nL ini d G l C pc 3 (zo_crV 168 1 8) := so_crV 168 1 8 (T := zT8) hC zt168 (by decide) rfl (by decide) h w1766 w1767 w144 w1768 ⟨rfl, by decide, by decide, by decide +kernel⟩ hd
theorem xc_169 (hC : z_HC l G d z_tb C) {idx : Nat} (h : Cond.methodLink own idx zy169 ∈ lw_all) (hd : decode cc pc = .ok (.invokevirtual idx, 3)) : z_SO own cc nL ini d G l C pc 3 (zo_crV 169 2 8) := so_crV 169 2 8 (T := zT8) hC zt169 (by decide) rfl (by decide) h w1770 w1771 w144 w1772 ⟨rfl, by decide, by decide, by decide +kernel⟩ hd
theorem xc_170 (hC : z_HC l G d z_tb C) {idx : Nat} (h : Cond.methodLink own idx zy170 ∈ lw_all) (hd : decode cc pc = .ok (.invokevirtual idx, 3)) : z_SO own cc nL ini d G l C pc 3 (zo_cvV 170 1 8) := so_cvV 170 1 8 (T := zT8) hC zt170 (by decide) rfl (by decide) h w1783 qs132 w144 w1784 ⟨rfl, by decide, by decide, by decide +kernel⟩ hd
theorem xc_171 (hC : z_HC l G d z_tb C) {idx : Nat} (h : Cond.methodLink own idx zy171 ∈ lw_all) (hd : decode cc pc = .ok (.invokevirtual idx, 3)) : z_SO own cc nL ini d G l C pc 3 (zo_crV 171 1 8) := so_crV 171 1 8 (T := zT8) hC zt171 (by decide) rfl (by decide) h w1778 w1779 w144 w1780 ⟨rfl, by decide, by decide, by decide +kernel⟩ hd
theorem xc_172 (hC : z_HC l G d z_tb C) {idx : Nat} (h : Cond.methodLink own idx zy172 ∈ lw_all) (hd : decode cc pc = .ok (.invokevirtual idx, 3)) : z_SO own cc nL ini d G l C pc 3 (zo_crV 172 0 8) := so_crV 172 0 8 (T := zT8) hC zt172 (by decide) rfl (by decide) h w1786 w1787 w144 w1788 ⟨rfl, by decide, by decide, by decide +kernel⟩ hd
theorem xc_173 (hC : z_HC l G d z_tb C) {idx : Nat} (h : Cond.methodLink own idx zy173 ∈ lw_all) (hd : decode cc pc = .ok (.invokevirtual idx, 3)) : z_SO own cc nL ini d G l C pc 3 (zo_crV 173 1 8) := so_crV 173 1 8 (T := zT8) hC zt173 (by decide) rfl (by decide) h w1790 w1791 w144 w1792 ⟨rfl, by decide, by decide, by decide +kernel⟩ hd
theorem xc_174 (hC : z_HC l G d z_tb C) {idx : Nat} (h : Cond.methodLink own idx zy174 ∈ lw_all) (hd : decode cc pc = .ok (.invokevirtual idx, 3)) : z_SO own cc nL ini d G l C pc 3 (zo_crV 174 1 8) := so_crV 174 1 8 (T := zT8) hC zt174 (by decide) rfl (by decide) h w1794 w1795 w144 w1796 ⟨rfl, by decide, by decide, by decide +kernel⟩ hd
theorem xc_175 (hC : z_HC l G d z_tb C) {idx : Nat} (h : Cond.methodLink own idx zy175 ∈ lw_all) (hd : decode cc pc = .ok (.invokevirtual idx, 3)) : z_SO own cc nL ini d G l C pc 3 (zo_crV 175 2 8) := so_crV 175 2 8 (T := zT8) hC zt175 (by decide) rfl (by decide) h w1798 w1799 w144 w1800 ⟨rfl, by decide, by decide, by decide +kernel⟩ hd
theorem xc_176 (hC : z_HC l G d z_tb C) {idx : Nat} (h : Cond.methodLink own idx zy176 ∈ lw_all) (hd : decode cc pc = .ok (.invokevirtual idx, 3)) : z_SO own cc nL ini d G l C pc 3 (zo_crV 176 2 8) := so_crV 176 2 8 (T := zT8) hC zt176 (by decide) rfl (by decide) h w1802 w1803 w144 w1804 ⟨rfl, by decide, by decide, by decide +kernel⟩ hd
theorem xc_177 (hC : z_HC l G d z_tb C) {idx : Nat} (h : Cond.methodLink own idx zy177 ∈ lw_all) (hd : decode cc pc = .ok (.invokevirtual idx, 3)) : z_SO own cc nL ini d G l C pc 3 (zo_crV 177 2 8) := so_crV 177 2 8 (T := zT8) hC zt177 (by decide) rfl (by decide) h w1806 w1807 w144 w1808 ⟨rfl, by decide, by decide, by decide +kernel⟩ hd
theorem xc_178 (hC : z_HC l G d z_tb C) {idx : Nat} (h : Cond.methodLink own idx zy178 ∈ lw_all) (hd : decode cc pc = .ok (.invokevirtual idx, 3)) : z_SO own cc nL ini d G l C pc 3 (zo_crV 178 2 8) := so_crV 178 2 8 (T := zT8) hC zt178 (by decide) rfl (by decide) h w1811 w1812 w144 w1813 ⟨rfl, by decide, by decide, by decide +kernel⟩ hd
theorem xc_179 (hC : z_HC l G d z_tb C) {idx : Nat} (h : Cond.methodLink own idx zy179 ∈ lw_all) (hd : decode cc pc = .ok (.invokevirtual idx, 3)) : z_SO own cc nL ini d G l C pc 3 (zo_crV 179 0 8) := so_crV 179 0 8 (T := zT8) hC zt179 (by decide) rfl (by decide) h w1817 w1818 w144 w1819 ⟨rfl, by decide, by decide, by decide +kernel⟩ hd
theorem xc_180 (hC : z_HC l G d z_tb C) {idx : Nat} (h : Cond.methodLink own idx zy180 ∈ lw_all) (hd : decode cc pc = .ok (.invokevirtual idx, 3)) : z_SO own cc nL ini d G l C pc 3 (zo_crV 180 2 8) := so_crV 180 2 8 (T := zT8) hC zt180 (by decide) rfl (by decide) h w1821 w1822 w144 w1823 ⟨rfl, by decide, by decide, by decide +kernel⟩ hd
theorem xc_181 (hC : z_HC l G d z_tb C) {idx : Nat} (h : Cond.methodLink own idx zy181 ∈ lw_all) (hd : decode cc pc = .ok (.invokevirtual idx, 3)) : z_SO own cc nL ini d G l C pc 3 (zo_crV 181 1 8) := so_crV 181 1 8 (T := zT8) hC zt181 (by decide) rfl (by decide) h w1825 w1826 w144 w1827 ⟨rfl, by decide, by decide, by decide +kernel⟩ hd
theorem xc_182 (hC : z_HC l G d z_tb C) {idx : Nat} (h : Cond.methodLink own idx zy182 ∈ lw_all) (hd : decode cc pc = .ok (.invokevirtual idx, 3)) : z_SO own cc nL ini d G l C pc 3 (zo_crV 182 1 8) := so_crV 182 1 8 (T := zT8) hC zt182 (by decide) rfl (by decide) h w1829 w1830 w144 w1831 ⟨rfl, by decide, by decide, by decide +kernel⟩ hd
theorem xc_183 (hC : z_HC l G d z_tb C) {idx : Nat} (h : Cond.methodLink own idx zy183 ∈ lw_all) (hd : decode cc pc = .ok (.invokevirtual idx, 3)) : z_SO own cc nL ini d G l C pc 3 (zo_crV 183 2 8) := so_crV 183 2 8 (T := zT8) hC zt183 (by decide) rfl (by decide) h w1833 w1834 w144 w1835 ⟨rfl, by decide, by decide, by decide +kernel⟩ hd
theorem xc_184 (hC : z_HC l G d z_tb C) {idx : Nat} (h : Cond.methodLink own idx zy184 ∈ lw_all) (hd : decode cc pc = .ok (.invokevirtual idx, 3)) : z_SO own cc nL ini d G l C pc 3 (zo_crV 184 0 8) := so_crV 184 0 8 (T := zT8) hC zt184 (by decide) rfl (by decide) h w1837 w1838 w144 w1839 ⟨rfl, by decide, by decide, by decide +kernel⟩ hd
theorem xc_185 (hC : z_HC l G d z_tb C) {idx : Nat} (h : Cond.methodLink own idx zy185 ∈ lw_all) (hd : decode cc pc = .ok (.invokevirtual idx, 3)) : z_SO own cc nL ini d G l C pc 3 (zo_crV 185 0 8) := so_crV 185 0 8 (T := zT8) hC zt185 (by decide) rfl (by decide) h w1841 w1842 w144 w1843 ⟨rfl, by decide, by decide, by decide +kernel⟩ hd
theorem xc_186 (hC : z_HC l G d z_tb C) {idx : Nat} (h : Cond.methodLink own idx zy186 ∈ lw_all) (hd : decode cc pc = .ok (.invokespecial idx, 3)) : z_SO own cc nL ini d G l C pc 3 (zo_cvV 186 2 10) := so_cvI 186 2 10 (T := zT10) hC zt186 (by decide) rfl (by decide) h w1095 w148 w1096 rfl ⟨by decide, by decide, by decide +kernel⟩ hd
theorem xc_187 (hC : z_HC l G d z_tb C) {idx : Nat} (h : Cond.methodLink own idx zy187 ∈ lw_all) (hd : decode cc pc = .ok (.invokevirtual idx, 3)) : z_SO own cc nL ini d G l C pc 3 (zo_crV 187 0 10) := so_crV 187 0 10 (T := zT10) hC zt187 (by decide) rfl (by decide) h w974 w975 w148 w976 ⟨rfl, by decide, by decide, by decide +kernel⟩ hd
theorem xc_188 (hC : z_HC l G d z_tb C) {idx : Nat} (h : Cond.methodLink own idx zy188 ∈ lw_all) (hd : decode cc pc = .ok (.invokevirtual idx, 3)) : z_SO own cc nL ini d G l C pc 3 (zo_cvV 188 1 10) := so_cvV 188 1 10 (T := zT10) hC zt188 (by decide) rfl (by decide) h w1015 w1016 w148 w1017 ⟨rfl, by decide, by decide, by decide +kernel⟩ hd
theorem xcN_189 (hC : z_HC l G d z_tb C) {idx : Nat} {host : String} (h : Cond.methodLinkNest own idx zy189 host ∈ lw_tbl) (hd : decode cc pc = .ok (.invokespecial idx, 3)) : z_SO own cc nL ini d G l C pc 3 (zo_cvV 189 0 7) := so_cvIN 189 0 7 (T := zT7) hC zt189 (by decide) rfl (by decide) h w406 w143 w407 rfl ⟨by decide, by decide, by decide +kernel⟩ hd
theorem xc_190 (hC : z_HC l G d z_tb C) {idx : Nat} (h : Cond.methodLink own idx zy190 ∈ lw_all) (hd : decode cc pc = .ok (.invokespecial idx, 3)) : z_SO own cc nL ini d G l C pc 3 (zo_cvV 190 1 4) := so_cvI 190 1 4 (T := zT4) hC zt190 (by decide) rfl (by decide) h w294 w140 w295 rfl ⟨by decide, by decide, by decide +kernel⟩ hd
theorem xc_191 (hC : z_HC l G d z_tb C) {idx : Nat} (h : Cond.methodLink own idx zy191 ∈ lw_all) (hd : decode cc pc = .ok (.invokevirtual idx, 3)) : z_SO own cc nL ini d G l C pc 3 (zo_crV 191 0 4) := so_crV 191 0 4 (T := zT4) hC zt191 (by decide) rfl (by decide) h w724 w725 w140 w726 ⟨rfl, by decide, by decide, by decide +kernel⟩ hd
theorem xc_192 (hC : z_HC l G d z_tb C) {idx : Nat} (h : Cond.methodLink own idx zy192 ∈ lw_all) (hd : decode cc pc = .ok (.invokevirtual idx, 3)) : z_SO own cc nL ini d G l C pc 3 (zo_cvV 192 2 4) := so_cvV 192 2 4 (T := zT4) hC zt192 (by decide) rfl (by decide) h w614 w615 w140 w616 ⟨rfl, by decide, by decide, by decide +kernel⟩ hd
theorem xc_193 (hC : z_HC l G d z_tb C) {idx : Nat} (h : Cond.methodLink own idx zy193 ∈ lw_all) (hd : decode cc pc = .ok (.invokevirtual idx, 3)) : z_SO own cc nL ini d G l C pc 3 (zo_cvV 193 0 4) := so_cvV 193 0 4 (T := zT4) hC zt193 (by decide) rfl (by decide) h w732 w733 w140 w734 ⟨rfl, by decide, by decide, by decide +kernel⟩ hd
theorem xc_194 (hC : z_HC l G d z_tb C) {idx : Nat} (h : Cond.methodLink own idx zy194 ∈ lw_all) (hd : decode cc pc = .ok (.invokevirtual idx, 3)) : z_SO own cc nL ini d G l C pc 3 (zo_crV 194 2 4) := so_crV 194 2 4 (T := zT4) hC zt194 (by decide) rfl (by decide) h w698 w699 w140 w700 ⟨rfl, by decide, by decide, by decide +kernel⟩ hd
theorem xc_195 (hC : z_HC l G d z_tb C) {idx : Nat} (h : Cond.methodLink own idx zy195 ∈ lw_all) (hd : decode cc pc = .ok (.invokevirtual idx, 3)) : z_SO own cc nL ini d G l C pc 3 (zo_crV 195 0 4) := so_crV 195 0 4 (T := zT4) hC zt195 (by decide) rfl (by decide) h w1073 w1074 w140 w1075 ⟨rfl, by decide, by decide, by decide +kernel⟩ hd
theorem xcN_196 (hC : z_HC l G d z_tb C) {idx : Nat} {host : String} (h : Cond.methodLinkNest own idx zy196 host ∈ lw_tbl) (hd : decode cc pc = .ok (.invokespecial idx, 3)) : z_SO own cc nL ini d G l C pc 3 (zo_cvV 196 0 3) := so_cvIN 196 0 3 (T := zT3) hC zt196 (by decide) rfl (by decide) h w192 w137 w193 rfl ⟨by decide, by decide, by decide +kernel⟩ hd
theorem xc_197 (hC : z_HC l G d z_tb C) {idx : Nat} (h : Cond.methodLink own idx zy197 ∈ lw_all) (hd : decode cc pc = .ok (.invokevirtual idx, 3)) : z_SO own cc nL ini d G l C pc 3 (zo_crV 197 2 3) := so_crV 197 2 3 (T := zT3) hC zt197 (by decide) rfl (by decide) h w799 qs26 w137 w800 ⟨rfl, by decide, by decide, by decide +kernel⟩ hd
theorem xcN_197 (hC : z_HC l G d z_tb C) {idx : Nat} {host : String} (h : Cond.methodLinkNest own idx zy197 host ∈ lw_tbl) (hd : decode cc pc = .ok (.invokevirtual idx, 3)) : z_SO own cc nL ini d G l C pc 3 (zo_crV 197 2 3) := so_crVN 197 2 3 (T := zT3) hC zt197 (by decide) rfl (by decide) h w799 qs26 w137 w800 ⟨by decide, by decide, by decide +kernel⟩ hd
theorem xc_198 (hC : z_HC l G d z_tb C) {idx : Nat} (h : Cond.methodLink own idx zy198 ∈ lw_all) (hd : decode cc pc = .ok (.invokevirtual idx, 3)) : z_SO own cc nL ini d G l C pc 3 (zo_crV 198 0 3) := so_crV 198 0 3 (T := zT3) hC zt198 (by decide) rfl (by decide) h w806 w807 w137 w808 ⟨rfl, by decide, by decide, by decide +kernel⟩ hd
theorem xc_199 (hC : z_HC l G d z_tb C) {idx : Nat} (h : Cond.methodLink own idx zy199 ∈ lw_all) (hd : decode cc pc = .ok (.invokestatic idx, 3)) : z_SO own cc nL ini d G l C pc 3 (zo_crS 199 1) := so_crS 199 1 hC zt199 (by decide) h w823 w137 w824 ⟨by decide, by decide, by decide +kernel⟩ hd
theorem xc_200 (hC : z_HC l G d z_tb C) {idx : Nat} (h : Cond.methodLink own idx zy200 ∈ lw_all) (hd : decode cc pc = .ok (.invokestatic idx, 3)) : z_SO own cc nL ini d G l C pc 3 (zo_crS 200 2) := so_crS 200 2 hC zt200 (by decide) h w826 w137 w827 ⟨by decide, by decide, by decide +kernel⟩ hd
theorem xc_201 (hC : z_HC l G d z_tb C) {idx : Nat} (h : Cond.methodLink own idx zy201 ∈ lw_all) (hd : decode cc pc = .ok (.invokevirtual idx, 3)) : z_SO own cc nL ini d G l C pc 3 (zo_crV 201 2 3) := so_crV 201 2 3 (T := zT3) hC zt201 (by decide) rfl (by decide) h w817 qs29 w137 w818 ⟨rfl, by decide, by decide, by decide +kernel⟩ hd
theorem xc_202 (hC : z_HC l G d z_tb C) {idx : Nat} (h : Cond.methodLink own idx zy202 ∈ lw_all) (hd : decode cc pc = .ok (.invokestatic idx, 3)) : z_SO own cc nL ini d G l C pc 3 (zo_crS 202 4) := so_crS 202 4 hC zt202 (by decide) h w820 w137 w821 ⟨by decide, by decide, by decide +kernel⟩ hd
theorem xc_203 (hC : z_HC l G d z_tb C) {idx : Nat} (h : Cond.methodLink own idx zy203 ∈ lw_all) (hd : decode cc pc = .ok (.invokevirtual idx, 3)) : z_SO own cc nL ini d G l C pc 3 (zo_cvV 203 3 3) := so_cvV 203 3 3 (T := zT3) hC zt203 (by decide) rfl (by decide) h w830 qs30 w137 w831 ⟨rfl, by decide, by decide, by decide +kernel⟩ hd
theorem xc_204 (hC : z_HC l G d z_tb C) {idx : Nat} (h : Cond.methodLink own idx zy204 ∈ lw_all) (hd : decode cc pc = .ok (.invokevirtual idx, 3)) : z_SO own cc nL ini d G l C pc 3 (zo_crV 204 1 3) := so_crV 204 1 3 (T := zT3) hC zt204 (by decide) rfl (by decide) h w846 qs32 w137 w847 ⟨rfl, by decide, by decide, by decide +kernel⟩ hd
theorem xc_205 (hC : z_HC l G d z_tb C) {idx : Nat} (h : Cond.methodLink own idx zy205 ∈ lw_all) (hd : decode cc pc = .ok (.invokevirtual idx, 3)) : z_SO own cc nL ini d G l C pc 3 (zo_crV 205 1 3) := so_crV 205 1 3 (T := zT3) hC zt205 (by decide) rfl (by decide) h w841 w842 w137 w843 ⟨rfl, by decide, by decide, by decide +kernel⟩ hd
theorem xc_206 (hC : z_HC l G d z_tb C) {idx : Nat} (h : Cond.methodLink own idx zy206 ∈ lw_all) (hd : decode cc pc = .ok (.invokevirtual idx, 3)) : z_SO own cc nL ini d G l C pc 3 (zo_crV 206 1 3) := so_crV 206 1 3 (T := zT3) hC zt206 (by decide) rfl (by decide) h w837 w838 w137 w839 ⟨rfl, by decide, by decide, by decide +kernel⟩ hd
theorem xc_207 (hC : z_HC l G d z_tb C) {idx : Nat} (h : Cond.methodLink own idx zy207 ∈ lw_all) (hd : decode cc pc = .ok (.invokevirtual idx, 3)) : z_SO own cc nL ini d G l C pc 3 (zo_crV 207 1 3) := so_crV 207 1 3 (T := zT3) hC zt207 (by decide) rfl (by decide) h w902 w903 w137 w904 ⟨rfl, by decide, by decide, by decide +kernel⟩ hd
theorem xc_208 (hC : z_HC l G d z_tb C) {idx : Nat} (h : Cond.methodLink own idx zy208 ∈ lw_all) (hd : decode cc pc = .ok (.invokevirtual idx, 3)) : z_SO own cc nL ini d G l C pc 3 (zo_crV 208 2 3) := so_crV 208 2 3 (T := zT3) hC zt208 (by decide) rfl (by decide) h w879 w880 w137 w881 ⟨rfl, by decide, by decide, by decide +kernel⟩ hd
theorem xc_209 (hC : z_HC l G d z_tb C) {idx : Nat} (h : Cond.methodLink own idx zy209 ∈ lw_all) (hd : decode cc pc = .ok (.invokevirtual idx, 3)) : z_SO own cc nL ini d G l C pc 3 (zo_cvV 209 2 3) := so_cvV 209 2 3 (T := zT3) hC zt209 (by decide) rfl (by decide) h w978 w979 w137 w980 ⟨rfl, by decide, by decide, by decide +kernel⟩ hd
theorem xc_210 (hC : z_HC l G d z_tb C) {idx : Nat} (h : Cond.methodLink own idx zy210 ∈ lw_all) (hd : decode cc pc = .ok (.invokevirtual idx, 3)) : z_SO own cc nL ini d G l C pc 3 (zo_crV 210 2 3) := so_crV 210 2 3 (T := zT3) hC zt210 (by decide) rfl (by decide) h w951 w952 w137 w953 ⟨rfl, by decide, by decide, by decide +kernel⟩ hd
theorem xc_211 (hC : z_HC l G d z_tb C) {idx : Nat} (h : Cond.methodLink own idx zy211 ∈ lw_all) (hd : decode cc pc = .ok (.invokevirtual idx, 3)) : z_SO own cc nL ini d G l C pc 3 (zo_crV 211 0 3) := so_crV 211 0 3 (T := zT3) hC zt211 (by decide) rfl (by decide) h w803 qs27 w137 w804 ⟨rfl, by decide, by decide, by decide +kernel⟩ hd
theorem xc_212 (hC : z_HC l G d z_tb C) {idx : Nat} (h : Cond.methodLink own idx zy212 ∈ lw_all) (hd : decode cc pc = .ok (.invokevirtual idx, 3)) : z_SO own cc nL ini d G l C pc 3 (zo_crV 212 1 3) := so_crV 212 1 3 (T := zT3) hC zt212 (by decide) rfl (by decide) h w813 qs28 w137 w814 ⟨rfl, by decide, by decide, by decide +kernel⟩ hd
theorem xc_213 (hC : z_HC l G d z_tb C) {idx : Nat} (h : Cond.methodLink own idx zy213 ∈ lw_all) (hd : decode cc pc = .ok (.invokevirtual idx, 3)) : z_SO own cc nL ini d G l C pc 3 (zo_crV 213 1 3) := so_crV 213 1 3 (T := zT3) hC zt213 (by decide) rfl (by decide) h w834 qs31 w137 w835 ⟨rfl, by decide, by decide, by decide +kernel⟩ hd
theorem xc_214 (hC : z_HC l G d z_tb C) {idx : Nat} (h : Cond.methodLink own idx zy214 ∈ lw_all) (hd : decode cc pc = .ok (.invokevirtual idx, 3)) : z_SO own cc nL ini d G l C pc 3 (zo_cvV 214 2 3) := so_cvV 214 2 3 (T := zT3) hC zt214 (by decide) rfl (by decide) h w794 w795 w137 w796 ⟨rfl, by decide, by decide, by decide +kernel⟩ hd
theorem xc_215 (hC : z_HC l G d z_tb C) {idx : Nat} (h : Cond.methodLink own idx zy215 ∈ lw_all) (hd : decode cc pc = .ok (.invokevirtual idx, 3)) : z_SO own cc nL ini d G l C pc 3 (zo_crV 215 0 3) := so_crV 215 0 3 (T := zT3) hC zt215 (by decide) rfl (by decide) h w871 w872 w137 w873 ⟨rfl, by decide, by decide, by decide +kernel⟩ hd
theorem xcN_216 (hC : z_HC l G d z_tb C) {idx : Nat} {host : String} (h : Cond.methodLinkNest own idx zy216 host ∈ lw_tbl) (hd : decode cc pc = .ok (.invokespecial idx, 3)) : z_SO own cc nL ini d G l C pc 3 (zo_cvV 216 0 2) := so_cvIN 216 0 2 (T := zT2) hC zt216 (by decide) rfl (by decide) h w177 w136 w178 rfl ⟨by decide, by decide, by decide +kernel⟩ hd
theorem xc_217 (hC : z_HC l G d z_tb C) {idx : Nat} (h : Cond.methodLink own idx zy217 ∈ lw_all) (hd : decode cc pc = .ok (.invokevirtual idx, 3)) : z_SO own cc nL ini d G l C pc 3 (zo_cvV 217 2 2) := so_cvV 217 2 2 (T := zT2) hC zt217 (by decide) rfl (by decide) h w656 qs9 w136 w657 ⟨rfl, by decide, by decide, by decide +kernel⟩ hd
theorem xc_218 (hC : z_HC l G d z_tb C) {idx : Nat} (h : Cond.methodLink own idx zy218 ∈ lw_all) (hd : decode cc pc = .ok (.invokevirtual idx, 3)) : z_SO own cc nL ini d G l C pc 3 (zo_cvV 218 3 2) := so_cvV 218 3 2 (T := zT2) hC zt218 (by decide) rfl (by decide) h w695 qs14 w136 w696 ⟨rfl, by decide, by decide, by decide +kernel⟩ hd
theorem xcN_218 (hC : z_HC l G d z_tb C) {idx : Nat} {host : String} (h : Cond.methodLinkNest own idx zy218 host ∈ lw_tbl) (hd : decode cc pc = .ok (.invokevirtual idx, 3)) : z_SO own cc nL ini d G l C pc 3 (zo_cvV 218 3 2) := so_cvVN 218 3 2 (T := zT2) hC zt218 (by decide) rfl (by decide) h w695 qs14 w136 w696 ⟨by decide, by decide, by decide +kernel⟩ hd
theorem xc_219 (hC : z_HC l G d z_tb C) {idx : Nat} (h : Cond.methodLink own idx zy219 ∈ lw_all) (hd : decode cc pc = .ok (.invokevirtual idx, 3)) : z_SO own cc nL ini d G l C pc 3 (zo_cvV 219 5 2) := so_cvV 219 5 2 (T := zT2) hC zt219 (by decide) rfl (by decide) h w651 w652 w136 w653 ⟨rfl, by decide, by decide, by decide +kernel⟩ hd
theorem xc_220 (hC : z_HC l G d z_tb C) {idx : Nat} (h : Cond.methodLink own idx zy220 ∈ lw_all) (hd : decode cc pc = .ok (.invokevirtual idx, 3)) : z_SO own cc nL ini d G l C pc 3 (zo_cvV 220 0 2) := so_cvV 220 0 2 (T := zT2) hC zt220 (by decide) rfl (by decide) h w690 w691 w136 w692 ⟨rfl, by decide, by decide, by decide +kernel⟩ hd
theorem xc_221 (hC : z_HC l G d z_tb C) {idx : Nat} (h : Cond.methodLink own idx zy221 ∈ lw_all) (hd : decode cc pc = .ok (.invokevirtual idx, 3)) : z_SO own cc nL ini d G l C pc 3 (zo_cvV 221 2 2) := so_cvV 221 2 2 (T := zT2) hC zt221 (by decide) rfl (by decide) h w664 qs10 w136 w665 ⟨rfl, by decide, by decide, by decide +kernel⟩ hd
theorem xc_222 (hC : z_HC l G d z_tb C) {idx : Nat} (h : Cond.methodLink own idx zy222 ∈ lw_all) (hd : decode cc pc = .ok (.invokevirtual idx, 3)) : z_SO own cc nL ini d G l C pc 3 (zo_cvV 222 0 2) := so_cvV 222 0 2 (T := zT2) hC zt222 (by decide) rfl (by decide) h w670 qs11 w136 w671 ⟨rfl, by decide, by decide, by decide +kernel⟩ hd
theorem xc_223 (hC : z_HC l G d z_tb C) {idx : Nat} (h : Cond.methodLink own idx zy223 ∈ lw_all) (hd : decode cc pc = .ok (.invokevirtual idx, 3)) : z_SO own cc nL ini d G l C pc 3 (zo_cvV 223 2 2) := so_cvV 223 2 2 (T := zT2) hC zt223 (by decide) rfl (by decide) h w678 w679 w136 w680 ⟨rfl, by decide, by decide, by decide +kernel⟩ hd
theorem xc_224 (hC : z_HC l G d z_tb C) {idx : Nat} (h : Cond.methodLink own idx zy224 ∈ lw_all) (hd : decode cc pc = .ok (.invokevirtual idx, 3)) : z_SO own cc nL ini d G l C pc 3 (zo_cvV 224 2 2) := so_cvV 224 2 2 (T := zT2) hC zt224 (by decide) rfl (by decide) h w659 w660 w136 w661 ⟨rfl, by decide, by decide, by decide +kernel⟩ hd
theorem xc_225 (hC : z_HC l G d z_tb C) {idx : Nat} (h : Cond.methodLink own idx zy225 ∈ lw_all) (hd : decode cc pc = .ok (.invokevirtual idx, 3)) : z_SO own cc nL ini d G l C pc 3 (zo_cvV 225 4 2) := so_cvV 225 4 2 (T := zT2) hC zt225 (by decide) rfl (by decide) h w867 w868 w136 w869 ⟨rfl, by decide, by decide, by decide +kernel⟩ hd
theorem xc_226 (hC : z_HC l G d z_tb C) {idx : Nat} (h : Cond.methodLink own idx zy226 ∈ lw_all) (hd : decode cc pc = .ok (.invokevirtual idx, 3)) : z_SO own cc nL ini d G l C pc 3 (zo_cvV 226 0 2) := so_cvV 226 0 2 (T := zT2) hC zt226 (by decide) rfl (by decide) h w759 w760 w136 w761 ⟨rfl, by decide, by decide, by decide +kernel⟩ hd
theorem xc_227 (hC : z_HC l G d z_tb C) {idx : Nat} (h : Cond.methodLink own idx zy227 ∈ lw_all) (hd : decode cc pc = .ok (.invokevirtual idx, 3)) : z_SO own cc nL ini d G l C pc 3 (zo_cvV 227 2 2) := so_cvV 227 2 2 (T := zT2) hC zt227 (by decide) rfl (by decide) h w1032 w1033 w136 w1034 ⟨rfl, by decide, by decide, by decide +kernel⟩ hd
theorem xc_228 (hC : z_HC l G d z_tb C) {idx : Nat} (h : Cond.methodLink own idx zy228 ∈ lw_all) (hd : decode cc pc = .ok (.invokevirtual idx, 3)) : z_SO own cc nL ini d G l C pc 3 (zo_cvV 228 1 2) := so_cvV 228 1 2 (T := zT2) hC zt228 (by decide) rfl (by decide) h w875 w876 w136 w877 ⟨rfl, by decide, by decide, by decide +kernel⟩ hd
theorem xc_229 (hC : z_HC l G d z_tb C) {idx : Nat} (h : Cond.methodLink own idx zy229 ∈ lw_all) (hd : decode cc pc = .ok (.invokespecial idx, 3)) : z_SO own cc nL ini d G l C pc 3 (zo_cvV 229 3 9) := so_cvI 229 3 9 (T := zT9) hC zt229 (by decide) rfl (by decide) h w526 w146 w527 rfl ⟨by decide, by decide, by decide +kernel⟩ hd
theorem xc_230 (hC : z_HC l G d z_tb C) {idx : Nat} (h : Cond.methodLink own idx zy230 ∈ lw_all) (hd : decode cc pc = .ok (.invokevirtual idx, 3)) : z_SO own cc nL ini d G l C pc 3 (zo_crV 230 0 9) := so_crV 230 0 9 (T := zT9) hC zt230 (by decide) rfl (by decide) h w622 w623 w146 w624 ⟨rfl, by decide, by decide, by decide +kernel⟩ hd
theorem xc_231 (hC : z_HC l G d z_tb C) {idx : Nat} (h : Cond.methodLink own idx zy231 ∈ lw_all) (hd : decode cc pc = .ok (.invokevirtual idx, 3)) : z_SO own cc nL ini d G l C pc 3 (zo_crV 231 0 9) := so_crV 231 0 9 (T := zT9) hC zt231 (by decide) rfl (by decide) h w638 w639 w146 w640 ⟨rfl, by decide, by decide, by decide +kernel⟩ hd
theorem xc_232 (hC : z_HC l G d z_tb C) {idx : Nat} (h : Cond.methodLink own idx zy232 ∈ lw_all) (hd : decode cc pc = .ok (.invokevirtual idx, 3)) : z_SO own cc nL ini d G l C pc 3 (zo_crV 232 0 9) := so_crV 232 0 9 (T := zT9) hC zt232 (by decide) rfl (by decide) h w682 w683 w146 w684 ⟨rfl, by decide, by decide, by decide +kernel⟩ hd
theorem xc_233 (hC : z_HC l G d z_tb C) {idx : Nat} (h : Cond.methodLink own idx zy233 ∈ lw_all) (hd : decode cc pc = .ok (.invokevirtual idx, 3)) : z_SO own cc nL ini d G l C pc 3 (zo_crV 233 0 9) := so_crV 233 0 9 (T := zT9) hC zt233 (by decide) rfl (by decide) h w1053 w1054 w146 w1055 ⟨rfl, by decide, by decide, by decide +kernel⟩ hd
theorem xcN_234 (hC : z_HC l G d z_tb C) {idx : Nat} {host : String} (h : Cond.methodLinkNest own idx zy234 host ∈ lw_tbl) (hd : decode cc pc = .ok (.invokespecial idx, 3)) : z_SO own cc nL ini d G l C pc 3 (zo_cvV 234 0 6) := so_cvIN 234 0 6 (T := zT6) hC zt234 (by decide) rfl (by decide) h w371 w142 w372 rfl ⟨by decide, by decide, by decide +kernel⟩ hd
theorem xcN_235 (hC : z_HC l G d z_tb C) {idx : Nat} {host : String} (h : Cond.methodLinkNest own idx zy235 host ∈ lw_tbl) (hd : decode cc pc = .ok (.invokespecial idx, 3)) : z_SO own cc nL ini d G l C pc 3 (zo_cvV 235 0 5) := so_cvIN 235 0 5 (T := zT5) hC zt235 (by decide) rfl (by decide) h w334 w141 w335 rfl ⟨by decide, by decide, by decide +kernel⟩ hd
theorem xc_236 (hC : z_HC l G d z_tb C) {idx : Nat} (h : Cond.methodLink own idx zy236 ∈ lw_all) (hd : decode cc pc = .ok (.invokevirtual idx, 3)) : z_SO own cc nL ini d G l C pc 3 (zo_cvV 236 1 5) := so_cvV 236 1 5 (T := zT5) hC zt236 (by decide) rfl (by decide) h w1011 w1012 w141 w1013 ⟨rfl, by decide, by decide, by decide +kernel⟩ hd
theorem xc_237 (hC : z_HC l G d z_tb C) {idx : Nat} (h : Cond.methodLink own idx zy237 ∈ lw_all) (hd : decode cc pc = .ok (.invokevirtual idx, 3)) : z_SO own cc nL ini d G l C pc 3 (zo_cvV 237 1 5) := so_cvV 237 1 5 (T := zT5) hC zt237 (by decide) rfl (by decide) h w998 w999 w141 w1000 ⟨rfl, by decide, by decide, by decide +kernel⟩ hd
theorem xcN_238 (hC : z_HC l G d z_tb C) {idx : Nat} {host : String} (h : Cond.methodLinkNest own idx zy238 host ∈ lw_tbl) (hd : decode cc pc = .ok (.invokespecial idx, 3)) : z_SO own cc nL ini d G l C pc 3 (zo_cvV 238 0 1) := so_cvIN 238 0 1 (T := zT1) hC zt238 (by decide) rfl (by decide) h w160 w135 w161 rfl ⟨by decide, by decide, by decide +kernel⟩ hd
theorem xc_239 (hC : z_HC l G d z_tb C) {idx : Nat} (h : Cond.methodLink own idx zy239 ∈ lw_all) (hd : decode cc pc = .ok (.invokevirtual idx, 3)) : z_SO own cc nL ini d G l C pc 3 (zo_cvV 239 0 1) := so_cvV 239 0 1 (T := zT1) hC zt239 (by decide) rfl (by decide) h w285 w286 w135 w287 ⟨rfl, by decide, by decide, by decide +kernel⟩ hd
theorem xc_240 (hC : z_HC l G d z_tb C) {idx : Nat} (h : Cond.methodLink own idx zy240 ∈ lw_all) (hd : decode cc pc = .ok (.invokevirtual idx, 3)) : z_SO own cc nL ini d G l C pc 3 (zo_cvV 240 1 1) := so_cvV 240 1 1 (T := zT1) hC zt240 (by decide) rfl (by decide) h w289 w290 w135 w291 ⟨rfl, by decide, by decide, by decide +kernel⟩ hd
theorem xc_241 (hC : z_HC l G d z_tb C) {idx : Nat} (h : Cond.methodLink own idx zy241 ∈ lw_all) (hd : decode cc pc = .ok (.invokevirtual idx, 3)) : z_SO own cc nL ini d G l C pc 3 (zo_cvV 241 1 1) := so_cvV 241 1 1 (T := zT1) hC zt241 (by decide) rfl (by decide) h w510 w511 w135 w512 ⟨rfl, by decide, by decide, by decide +kernel⟩ hd
theorem xc_242 (hC : z_HC l G d z_tb C) {idx : Nat} (h : Cond.methodLink own idx zy242 ∈ lw_all) (hd : decode cc pc = .ok (.invokevirtual idx, 3)) : z_SO own cc nL ini d G l C pc 3 (zo_cvV 242 3 1) := so_cvV 242 3 1 (T := zT1) hC zt242 (by decide) rfl (by decide) h w982 w983 w135 w984 ⟨rfl, by decide, by decide, by decide +kernel⟩ hd
theorem xc_243 (hC : z_HC l G d z_tb C) {idx : Nat} (h : Cond.methodLink own idx zy243 ∈ lw_all) (hd : decode cc pc = .ok (.invokevirtual idx, 3)) : z_SO own cc nL ini d G l C pc 3 (zo_crV 243 1 1) := so_crV 243 1 1 (T := zT1) hC zt243 (by decide) rfl (by decide) h w521 w522 w135 w523 ⟨rfl, by decide, by decide, by decide +kernel⟩ hd
theorem xc_244 (hC : z_HC l G d z_tb C) {idx : Nat} (h : Cond.methodLink own idx zy244 ∈ lw_all) (hd : decode cc pc = .ok (.invokevirtual idx, 3)) : z_SO own cc nL ini d G l C pc 3 (zo_crV 244 3 1) := so_crV 244 3 1 (T := zT1) hC zt244 (by decide) rfl (by decide) h w883 w884 w135 w885 ⟨rfl, by decide, by decide, by decide +kernel⟩ hd
theorem xc_245 (hC : z_HC l G d z_tb C) {idx : Nat} (h : Cond.methodLink own idx zy245 ∈ lw_all) (hd : decode cc pc = .ok (.invokevirtual idx, 3)) : z_SO own cc nL ini d G l C pc 3 (zo_crV 245 1 1) := so_crV 245 1 1 (T := zT1) hC zt245 (by decide) rfl (by decide) h w776 w777 w135 w778 ⟨rfl, by decide, by decide, by decide +kernel⟩ hd
theorem xc_246 (hC : z_HC l G d z_tb C) {idx : Nat} (h : Cond.methodLink own idx zy246 ∈ lw_all) (hd : decode cc pc = .ok (.invokevirtual idx, 3)) : z_SO own cc nL ini d G l C pc 3 (zo_cvV 246 6 1) := so_cvV 246 6 1 (T := zT1) hC zt246 (by decide) rfl (by decide) h w281 w282 w135 w283 ⟨rfl, by decide, by decide, by decide +kernel⟩ hd
theorem xc_247 (hC : z_HC l G d z_tb C) {idx : Nat} (h : Cond.methodLink own idx zy247 ∈ lw_all) (hd : decode cc pc = .ok (.invokestatic idx, 3)) : z_SO own cc nL ini d G l C pc 3 (zo_crS 247 0) := so_crS 247 0 hC zt247 (by decide) h w196 w139 w197 ⟨by decide, by decide, by decide +kernel⟩ hd
end XF
